section T244_hr
/-! rows that the parse does not read: 120, 121, 127, 122 (pass 1) | 168, 169, 176 -/
section NRr
variable {b F F' : Int} {M N M' N' M1 N1 : mm_} {a c v ee T : Int}
theorem STA_nr [Inhabited gh_] (h : STA b F M N a ee) (hx : ∀ r : Nat, r ≠ 120 → r ≠ 121 → r ≠ 122 → r ≠ 127 → M1 r = M r) (h122 : b = 1 → M1 122 = M 122) (hq : ∀ r : Nat, r ≠ 168 → r ≠ 169 → r ≠ 176 → N1 r = N r) : STA b F M1 N1 a ee := by
  have e : ∀ r : Nat, r < 120 ∨ (122 < r ∧ r ≠ 127) → M1 r = M r := fun r hr => hx r (by omega) (by omega) (by omega) (by omega)
  have q : ∀ r : Nat, r < 168 ∨ (169 < r ∧ r ≠ 176) → N1 r = N r := fun r hr => hq r (by omega) (by omega) (by omega)
  obtain ⟨hTS, h2, h3⟩ := h
  have hE := TS_E hTS
  have e1 := e 1 (by decide)
  have e5 := e 5 (by decide)
  have q6 := q 6 (by decide)
  have e71 := e 71 (by decide)
  have nm : ∀ t, nm9_ M t → nm9_ M1 t := fun t ht => nm9_r ht (e 70 (by decide))
  refine ⟨TS_mk hTS (Tks_r hTS.1.1 (fun r hr => e r ?_) (fun r hr => q r ?_)) ?_ (ER_Q (ER_X hE (e 70 (by decide)) e1 e5) (by rw [q6]) (by rw [q6]) (by rw [q6]) (by rw [q6]) (by rw [q6])) ?_ ?_ ?_ (fun i _ => by rw [e1]) (by rw [e1]; exact hTS.2.2.2.2.2.1) (by rw [e5]) (fun i _ => by rw [q6]), by rw [e5, q6]; exact h2, fun hb => ?_⟩
  · simp only [List.mem_cons, List.not_mem_nil, or_false] at hr; omega
  · simp only [List.mem_cons, List.not_mem_nil, or_false] at hr; omega
  · obtain ⟨v1, v2, v3, v4, v5, v6, v7, v8⟩ := hTS.1.2.1
    unfold VT
    rw [e1, q6, e 124 (by decide), e 126 (by decide), e 60 (by decide), e 130 (by decide), e 131 (by decide), e 132 (by decide), e 61 (by decide), q 171 (by decide), q 173 (by decide), q 177 (by decide), q 182 (by decide), q 183 (by decide), q 184 (by decide), q 178 (by decide), q 151 (by decide)]
    exact ⟨v1, v2, v3, v4, v5, v6, fun k k0 k1 => ⟨nm _ (v7 k k0 k1).1, (v7 k k0 k1).2⟩, fun k k0 k1 => ⟨nm _ (v8 k k0 k1).1, (v8 k k0 k1).2⟩⟩
  · obtain ⟨⟨⟨g1, g1'⟩, g2⟩, ⟨⟨g3, g3'⟩, g4, g5⟩, ⟨g6, g6'⟩, g7⟩ := hTS.2.1
    have tp : tpl N1 = tpl N := by funext x; unfold tpl; rw [q6, q 154 (by decide)]
    unfold GT SGT PRT RTT sgl9 tpl9 rtl9
    rw [e5, q6, e71, e 112 (by decide), e 113 (by decide), e 56 (by decide), e 57 (by decide), e 58 (by decide), e 130 (by decide), e 114 (by decide), e 119 (by decide), q 152 (by decide), q 151 (by decide), q 156 (by decide), q 157 (by decide), q 154 (by decide), q 153 (by decide), q 182 (by decide), q 183 (by decide), q 158 (by decide), q 164 (by decide), q 170 (by decide), tp]
    refine ⟨⟨⟨g1, fun k k0 k1 => ⟨nm _ (g1' k k0 k1).1, (g1' k k0 k1).2⟩⟩, g2⟩, ⟨⟨g3, fun k k0 k1 => ⟨nm _ (g3' k k0 k1).1, (g3' k k0 k1).2⟩⟩, g4, fun hb => ?_⟩, ⟨g6, fun k k0 k1 => ⟨nm _ (g6' k k0 k1).1, (g6' k k0 k1).2⟩⟩, g7⟩
    rw [h122 hb]; exact g5 hb
  · obtain ⟨⟨l1, l2⟩, l3⟩ := hTS.2.2.1
    unfold LBT LBG lbl9
    rw [e1, e71, e 128 (by decide), e 62 (by decide), q 175 (by decide), q 180 (by decide), q 187 (by decide), q 151 (by decide)]
    exact ⟨⟨l1, fun k k0 k1 => ⟨nm _ (l2 k k0 k1).1, (l2 k k0 k1).2⟩⟩, l3⟩
  · obtain ⟨s1, s2⟩ := hTS.2.2.2.1
    unfold stt9
    rw [e1, e 123 (by decide), e 59 (by decide), q 174 (by decide), q 179 (by decide), q 151 (by decide)]
    exact ⟨s1, fun k k0 k1 => ⟨nm _ (s2 k k0 k1).1, (s2 k k0 k1).2⟩⟩
  · obtain ⟨⟨xs, s1⟩, s2⟩ := h3 hb
    refine ⟨⟨xs, SRW_c s1 (by rw [e5]) (e _ (by decide)) (e _ (by decide)) (e _ (by decide)) (e _ (by decide)) (e _ (by decide)) (by rw [q6]) (by rw [q6]) (q _ (by decide)) (q _ (by decide)) (q _ (by decide)) (q _ (by decide)) (q _ (by decide)) (q _ (by decide))⟩, ?_⟩
    rw [q6, q 199 (by decide)]; exact s2
theorem HDR_nr [Inhabited gh_] (h : HDR b F M N a) (hx : ∀ r : Nat, r ≠ 120 → r ≠ 121 → r ≠ 122 → r ≠ 127 → M1 r = M r) (h122 : b = 1 → M1 122 = M 122) (hq : ∀ r : Nat, r ≠ 168 → r ≠ 169 → r ≠ 176 → N1 r = N r) : HDR b F M1 N1 a := by
  obtain ⟨h1, h2, h3, h4⟩ := h
  have e : ∀ r : Nat, r < 120 ∨ (122 < r ∧ r ≠ 127) → M1 r = M r := fun r hr => hx r (by omega) (by omega) (by omega) (by omega)
  have q : ∀ r : Nat, r < 168 ∨ (169 < r ∧ r ≠ 176) → N1 r = N r := fun r hr => hq r (by omega) (by omega) (by omega)
  refine ⟨STA_nr h1 hx h122 hq, ?_, fun hb u hu => ?_, by rw [e 1 (by decide)]; exact HDG_c h4 (fun r hr => e r (by simp only [List.mem_cons, List.not_mem_nil, or_false] at hr; (clear hx h122 hq h1 h2 h3 h4 e q; omega))) (q _ (by decide))⟩
  · rw [e 1 (by decide)]
    refine TBL_c h2 (fun r hr => e r ?_) (fun r hr => q r ?_)
    · simp only [List.mem_cons, List.not_mem_nil, or_false] at hr; (clear hx h122 hq h1 h2 h3 h4 e q; lia)
    · simp only [List.mem_cons, List.not_mem_nil, or_false] at hr; omega
  · rw [e 1 (by decide), DCL_c (e _ (by decide)) (e _ (by decide)) (e _ (by decide)) (e _ (by decide))] at hu
    exact h3 hb u hu
theorem up_e122 [Inhabited gh_] (hb : b = 1 → v = M 122 T) (h : b = 1) : up_ M 122 T v = M := by rw [hb h]; exact up_id
theorem HDR_122 [Inhabited gh_] (h : HDR b F M N a) (hb : b = 1 → v = M 122 (M 1 18)) : HDR b F (up_ M 122 (M 1 18) v) N a := HDR_nr h (fun r _ _ h _ => up_ne h) (fun h1 => by rw [up_e122 hb h1]) (fun _ _ _ _ => rfl)
theorem PHF_122 [Inhabited gh_] (h : PHF b F F' M N M1 N1) : PHF b F F' (up_ M 122 T v) N (up_ M1 122 T v) N1 := by
  obtain ⟨⟨a1, a2, a3, a4⟩, a5, a6, a7, a8, a9, m1, d1, a10⟩ := h
  have x : ∀ r : Nat, r ≠ 122 → up_ M 122 T v r = M r := fun r h => up_ne h
  have y : ∀ r : Nat, r ≠ 122 → up_ M1 122 T v r = M1 r := fun r h => up_ne h
  refine ⟨⟨fun r h1 h2 => up_cg (a1 r h1 h2), fun i hi => by rw [x 1 (by decide), y 1 (by decide)]; exact a2 i hi, a3, a4⟩, ?_, fun hb => ⟨fun r h1 => up_cg ((a6 hb).1 r h1), (a6 hb).2⟩, a7, a8, fun u hu => ?_, by rw [x 1 (by decide), y 1 (by decide)]; exact m1, fun hb u hu => ?_, fun hb => ⟨(a10 hb).1, fun u v hu hv a3 a4 a5 a6 hn => ?_⟩⟩
  · unfold PHR at a5 ⊢
    rw [x 1 (by decide), x 124 (by decide), x 125 (by decide), x 126 (by decide), x 60 (by decide), x 61 (by decide), x 130 (by decide), x 131 (by decide), x 132 (by decide), y 124 (by decide), y 125 (by decide), y 126 (by decide), y 60 (by decide), y 61 (by decide), y 130 (by decide), y 131 (by decide), y 132 (by decide)]
    exact a5
  · rw [x 1 (by decide)] at hu ⊢
    rw [DCL_c (y _ (by decide)) (y _ (by decide)) (y _ (by decide)) (y _ (by decide))]
    rw [DCL_c (x _ (by decide)) (x _ (by decide)) (x _ (by decide)) (x _ (by decide))] at hu
    exact a9 u hu
  · rw [x 1 (by decide)] at hu ⊢
    rw [DCL_c (y _ (by decide)) (y _ (by decide)) (y _ (by decide)) (y _ (by decide))] at hu
    rw [DCL_c (x _ (by decide)) (x _ (by decide)) (x _ (by decide)) (x _ (by decide))]
    exact d1 hb u hu
  · rw [x 1 (by decide)] at hu hv a5
    rw [y 1 (by decide)] at a6
    rw [DCL_c (x _ (by decide)) (x _ (by decide)) (x _ (by decide)) (x _ (by decide))] at hu hv
    rw [x 71 (by decide)]
    exact (a10 hb).2 u v hu hv a3 a4 a5 a6 hn
theorem DMT_122 [Inhabited gh_] : DMT (up_ M 122 T v) = DMT M := by
  unfold DMT
  rw [up_ne (by decide), up_ne (by decide), up_ne (by decide), up_ne (by decide), up_ne (by decide)]
theorem DOK_122 [Inhabited gh_] {dm : Int → Bool} (h : DOK b dm M M1) : DOK b dm (up_ M 122 T v) M1 := ⟨h.1, fun hb => by rw [DMT_122]; exact h.2 hb⟩
theorem DOK_122' [Inhabited gh_] {dm : Int → Bool} (h : DOK b dm M (up_ M1 122 T v)) : DOK b dm M M1 := ⟨fun hb t ht => h.1 hb t (by
  rw [up_ne (by decide), DCL_c (up_ne (by decide)) (up_ne (by decide)) (up_ne (by decide)) (up_ne (by decide))]; exact ht), h.2⟩
end NRr
end T244_hr
section T245_hs
/-! a process's head from its ';' to START (X 126 | Q 252 V 220) -/
def q220 (dq : Nat) (x1 x2 x3 x4 x5 x6 : Int) (N : mm_) (G : mm_ → Prop) (Qt : qt_) : Prop := ∀ V : vv_, Cl_ wd0 (Tr_ wd0 pg0 (dq + 18)) V (rv_ G) Qt m_252 → Wk_ V → V 220 [rr 6, ii x1, ii x2, ii x3, ii x4, ii x5, ii x6] [] N
/-- Q from START on -/
def qSR (dq : Nat) (x1 x2 x3 x4 x5 x6 : Int) (N : mm_) (G : mm_ → Prop) (Qt : qt_) : Prop := ∀ V : vv_, Cl_ wd0 (Tr_ wd0 pg0 (dq + 18)) V (rv_ G) Qt m_252 → Wk_ V → Tr_ wd0 pg0 (dq + 18) 250 [.inr (.inr 6), .inl 5] N (rv_ fun M3 =>
    Tr_ wd0 pg0 (dq + 18) 244 [.inr (.inr 6), .inl 59] M3 (rv_ fun M4 =>
     (0 ≤ x1 ∧ x1 < 6) ∧
      Tr_ wd0 pg0 (dq + 18) 260 [.inr (.inr 6), .inl 1, .inl 0] (up_ M4 176 x1 (M4 6 75)) (rv_ fun M5 =>
      V 259 [rr 6, ii x1, ii x2, ii x3, ii x4, ii x5, ii x6] [] M5) Qt) Qt) Qt
section HSm
variable {dq : Nat} {b F : Int} {x1 x2 x3 x4 x5 c y1 y2 : Int} {Kv G : mm_ → Prop} {Qt Qtq : qt_} {V V' : vv_} {M N Mx' : mm_} {a : Int}
theorem SQp_u [Inhabited gh_] {r : Nat} {i v : Int} {N' : mm_} (h : SQp Mx' N N') (hr : 152 ≤ r ∧ r ≤ 234) : SQp Mx' N (up_ N' r i v) := by
  have e6 : up_ N' r i v 6 = N' 6 := up_ne (by omega)
  obtain ⟨h1, h2, h3, h4, h5⟩ := h
  refine ⟨by unfold sp_ at *; rw [e6]; exact h1, by unfold in9_ at *; rw [e6]; exact h2, by rw [e6]; exact h3, ⟨by rw [e6]; exact h4.1, h4.2⟩, fun s hs => ?_, fun j hj => by rw [e6]; exact h5.2 j hj⟩
  rw [up_ne (fun e => hs (by unfold QPRr; (clear e6 h1 h2 h3 h4 h5 hs; omega)))]; exact h5.1 s hs
/-- Q, stopped, from START on -/
theorem qSR_s [Inhabited gh_] (hx : 0 ≤ x1 ∧ x1 < 6) (hV : Cl_ wd0 (Tr_ wd0 pg0 (dq + 18)) V' (rv_ G) Qtq m_252) (hW : Wk_ V') {N' : mm_} (h : SQp Mx' N N') (hg : ∀ M', SQp Mx' N M' → G M') : Tr_ wd0 pg0 (dq + 18) 250 [.inr (.inr 6), .inl 5] N' (rv_ fun M3 =>
    Tr_ wd0 pg0 (dq + 18) 244 [.inr (.inr 6), .inl 59] M3 (rv_ fun M4 =>
     (0 ≤ x1 ∧ x1 < 6) ∧
      Tr_ wd0 pg0 (dq + 18) 260 [.inr (.inr 6), .inl 1, .inl 0] (up_ M4 176 x1 (M4 6 75)) (rv_ fun M5 =>
      V' 259 [rr 6, ii x1, ii x2, ii x3, ii x4, ii x5, ii c] [] M5) Qtq) Qtq) Qtq := by
  have h9 := SQp_u (r := 176) (i := x1) (v := N' 6 75) h (by decide)
  exact q_250s h.1 (q_244s h.1 ⟨hx, q_260z h9.1 (q59_s hV hW h9.1 (hg _ h9))⟩)
theorem q_257z [Inhabited gh_] {x : Int} (hs : sp_ N) (h : G N) : Tr_ wd0 pg0 (dq + 18) 257 [.inr (.inr 6), .inl x] N (rv_ G) Qtq := t_257 fun V hV hW => b_257_0 (Tr_mono _) hV hW _ _ (q57_s hV hW hs h)
theorem q220_s [Inhabited gh_] (hx : 0 ≤ x1 ∧ x1 < 6) (hV : Cl_ wd0 (Tr_ wd0 pg0 (dq + 18)) V' (rv_ G) Qtq m_252) (hW : Wk_ V') {N' : mm_} (h : SQp Mx' N N') (hg : ∀ M', SQp Mx' N M' → G M') : V' 220 [rr 6, ii x1, ii x2, ii x3, ii x4, ii x5, ii c] [] N' :=
  b_252_220 (Tr_mono _) hV hW _ _ _ _ _ _ _ (q_244s h.1 (q_257z h.1 (qSR_s hx hV hW h hg)))
theorem y_smi [Inhabited gh_] (hV : Cl_ wd0 (Tr_ wd0 pg0 130) V (rv_ Kv) Qt m_126) (hW : Wk_ V) (hx : 0 ≤ x1 ∧ x1 < 6) (h : HDR b F M N a) (hc : b = 0 → M 124 (M 1 18) = c ∧ M 126 (M 1 18) = 0 ∧ N 170 (M 1 18) = c) (hS : b = 1 → (tS (M 70) 259 a).bind (DLS (M 70) (M 73) (DMT M)) ≠ none)
    (hK : ∀ F' M' N' a', HDR b F' M' N' a' → a + 1 ≤ a' → PHF b F F' M N M' N' → (b = 0 → N' 170 = N 170 ∧ N' 170 (M 1 18) ≤ M' 124 (M 1 18)) → (M' 70 a' ≠ 3 ∧ M' 70 a' ≠ 4) → (∀ dm, DOK b dm M M' → (tS (M 70) 259 a).bind (DLS (M 70) (M 73) dm) = some a') → (∀ (G : mm_ → Prop) (Qtq : qt_), qSR dq x1 x2 x3 x4 x5 c N' G Qtq → q220 dq x1 x2 x3 x4 x5 c N G Qtq) → z399 V Qt y1 y2 c M')
    (hQ : b = 0 → ∀ Mx', XPb M Mx' → (∀ (G : mm_ → Prop) (Qtq : qt_), (∀ M', SQp Mx' N M' → G M') → q220 dq x1 x2 x3 x4 x5 c N G Qtq) → Qt 8 Mx') :
    Tr_ wd0 pg0 130 121 [.inr (.inr 1), .inl 59] M (rv_ fun M6 => V 399 [rr 1, ii y1, ii y2, ii c, none, none, none] [] M6) Qt := by
  have hE := TS_E h.1.1
  have hT := h.1.1.1.1
  refine y_121 hE (by decide) (fun hb => bind_n (hS hb)) (fun k1 h12 hE1 => ?_) (fun hb k1 h12 => ?_) (fun hb k1 => ?_)
  · have H1 := HDR_go h hE1
    have k1' : M 70 a = 259 := k1
    have x1r : ∀ r : Nat, r ≠ 1 → nX_ M r = M r := fun r h => nX_ne h
    have e18 : nX_ M 1 18 = M 1 18 := nX_1 (by decide)
    have eS : ∀ dm, (tS (M 70) 259 a).bind (DLS (M 70) (M 73) dm) = DLS (M 70) (M 73) dm (a + 1) := fun dm => by rw [tS_e k1' h12, Option.bind_some]
    have toQ : ∀ (G : mm_ → Prop) (Qtq : qt_), (∀ V' : vv_, Cl_ wd0 (Tr_ wd0 pg0 (dq + 18)) V' (rv_ G) Qtq m_252 → Wk_ V' → q57 dq c c 0 1 (nx_ N) (fun M2 => Tr_ wd0 pg0 (dq + 18) 250 [.inr (.inr 6), .inl 5] M2 (rv_ fun M3 =>
    Tr_ wd0 pg0 (dq + 18) 244 [.inr (.inr 6), .inl 59] M3 (rv_ fun M4 =>
     (0 ≤ x1 ∧ x1 < 6) ∧
      Tr_ wd0 pg0 (dq + 18) 260 [.inr (.inr 6), .inl 1, .inl 0] (up_ M4 176 x1 (M4 6 75)) (rv_ fun M5 =>
      V' 259 [rr 6, ii x1, ii x2, ii x3, ii x4, ii x5, ii c] [] M5) Qtq) Qtq) Qtq) Qtq) → q220 dq x1 x2 x3 x4 x5 c N G Qtq := fun G Qtq hq V' hV' hW' => b_252_220 (Tr_mono _) hV' hW' _ _ _ _ _ _ _ (j_244t hT hE (by decide) k1 h12 (t_257 fun V2 hV2 hW2 => b_257_0 (Tr_mono _) hV2 hW2 _ _ (hq V' hV' hW' V2 hV2 hW2)))
    refine l_399 (dq := dq) (y1 := c) hV hW 1201 (a + 1) F c 0 (nX_ M) (nx_ N) (by have := ER_a hE; omega) H1 (fun hb => ?_) (fun hb => ?_) (fun F' M' N' a' H' ha' p' c' h34 sy hq => ?_) (fun hb Mx' hx' hq => ?_)
    · have := hc hb
      rw [e18, x1r 124 (by decide), x1r 126 (by decide), nx_ne (by decide)]; omega
    · have := hS hb
      rw [eS] at this
      rw [x1r 70 (by decide), x1r 73 (by decide), DMT_c (PHF_go h (by rw [k1]; decide)) hb]; exact this
    · have p1 := PHF_tr (PHF_go h (by rw [k1]; decide)) p'
      rw [x1r 70 (by decide), x1r 73 (by decide)] at sy
      refine hK F' M' N' a' H' (by omega) p1 (fun hb => ⟨by rw [(c' hb).1, nx_ne (by decide)], by have := (c' hb).2; rw [nX_1 (by decide)] at this; exact this⟩) h34 (fun dm hd => ?_) (fun G Qtq hg => toQ G Qtq fun V' hV' hW' => hq _ _ (hg V' hV' hW'))
      rw [eS]
      exact sy dm (DOK_s (PHF_go h (by rw [k1]; decide)) p' hd).2
    · exact hQ hb Mx' (XPb_tr XPb_nX hx') (fun G Qtq hg => toQ G Qtq fun V' hV' hW' => hq _ _ fun M' p => qSR_s hx hV' hW' (SQp_tr QPb_nx p) hg)
  · have hsp := SQ_bf hE hb (k := 2) (by decide) QA_rf
    exact hQ hb _ XPb_fl (fun G Qtq hg V' hV' hW' => b_252_220 (Tr_mono _) hV' hW' _ _ _ _ _ _ _ (j_244r hT hE hb (by decide) k1 h12 (q_257z hsp.1 (qSR_s hx hV' hW' (SQ_P hsp) hg))))
  · have hsp := SQ_bf hE hb (k := 1) (by decide) QA_rf
    exact hQ hb _ XPb_fl (fun G Qtq hg V' hV' hW' => b_252_220 (Tr_mono _) hV' hW' _ _ _ _ _ _ _ (j_244w hT hE hb (by decide) k1 (q_257z hsp.1 (qSR_s hx hV' hW' (SQ_P hsp) hg))))
end HSm
end T245_hs
section T246_hp
/-! a process's head from its parameters to START (X 126 V 281 | Q 252) -/
def prP (κ : Int → Int) (dm : Int → Bool) (pm a : Int) : Option Int := if κ a = 240 then (PAS κ dm (a, 0)).bind fun r => if r.2 = pm then some r.1 else none else if pm = 0 then some a else none
def hdP (κ ν : Int → Int) (dm : Int → Bool) (pm a : Int) : Option Int := (prP κ dm pm a).bind fun a1 => (tS κ 259 a1).bind (DLS κ ν dm)
def qPR (dq : Nat) (x1 x2 x3 x4 x5 : Int) (N : mm_) (G : mm_ → Prop) (Qt : qt_) : Prop := ∀ V : vv_, Cl_ wd0 (Tr_ wd0 pg0 (dq + 18)) V (rv_ G) Qt m_252 → Wk_ V → Tr_ wd0 pg0 (dq + 18) 237 [.inr (.inr 6), .inl 40] N (ri_ fun v4 M4 =>
    (if v4 = 0 then
     V 220 [rr 6, ii x1, ii x2, ii x3, ii x4, ii x5, ii 0] [] M4
    else
     Tr_ wd0 pg0 (dq + 18) 253 [.inr (.inr 6)] M4 (ri_ fun v5 M5 =>
      V 220 [rr 6, ii x1, ii x2, ii x3, ii x4, ii x5, ii v5] [] M5) Qt)) Qt
section HPp
variable {dq : Nat} {b F : Int} {x1 x2 x3 x4 x5 c y1 y2 pm j : Int} {Kv G : mm_ → Prop} {Qt Qtq : qt_} {V V' : vv_} {M N Mx' M' N' : mm_} {a a' : Int} {κ ν : Int → Int} {dm : Int → Bool}
theorem hdP_1 [ig : Inhabited gh_] (hk : κ a = 240) (h : PAS κ dm (a, 0) = (tS κ 241 a').bind fun a5 => some (a5, j)) (k : κ a' = 241) (h12 : a' < 1200) : hdP κ ν dm pm a = (if j = pm then some (a' + 1) else none).bind fun a1 => (tS κ 259 a1).bind (DLS κ ν dm) := by
  unfold hdP prP
  rw [if_pos hk, h, tS_e k h12, Option.bind_some, Option.bind_some]
theorem hdP_2 [ig : Inhabited gh_] (hk : κ a = 240) (h : PAS κ dm (a, 0) = (tS κ 241 a').bind fun a5 => some (a5, j)) (hn : hdP κ ν dm pm a ≠ none) : tS κ 241 a' ≠ none := by
  intro e
  apply hn
  unfold hdP prP
  rw [if_pos hk, h, e]; rfl
theorem hdP_3 [ig : Inhabited gh_] (hk : κ a = 240) (hn : hdP κ ν dm pm a ≠ none) : PAS κ dm (a, 0) ≠ none := by
  intro e
  apply hn
  unfold hdP prP
  rw [if_pos hk, e]; rfl
theorem hdP_0 [ig : Inhabited gh_] (hk : κ a ≠ 240) : hdP κ ν dm pm a = (if pm = 0 then some a else none).bind fun a1 => (tS κ 259 a1).bind (DLS κ ν dm) := by
  unfold hdP prP
  rw [if_neg hk]
theorem if_bd [ig : Inhabited gh_] {X : Int → Option Int} {p : Prop} [Decidable p] (h : p) : (if p then some a else none).bind X = X a := by rw [if_pos h]; rfl
theorem if_bn [ig : Inhabited gh_] {X : Int → Option Int} {p : Prop} [Decidable p] (h : (if p then some a else none).bind X ≠ none) : p := by
  by_cases c : p
  · exact c
  · rw [if_neg c] at h; exact absurd rfl h
/-- Q, stopped, behind the head's counts -/
theorem q253z [ig : Inhabited gh_] {G : Int → mm_ → Prop} (hs : sp_ N) (h : ∀ v, G v N) : Tr_ wd0 pg0 (dq + 18) 253 [.inr (.inr 6)] N (ri_ G) Qtq := t_253 fun V hV hW => b_253_0 (Tr_mono _) hV hW _ (q_239s hs (q53_s hV hW hs h))
theorem qPR_s [ig : Inhabited gh_] (hx : 0 ≤ x1 ∧ x1 < 6) (hV : Cl_ wd0 (Tr_ wd0 pg0 (dq + 18)) V' (rv_ G) Qtq m_252) (hW : Wk_ V') (h : SQp Mx' N N') (hg : ∀ M', SQp Mx' N M' → G M') : Tr_ wd0 pg0 (dq + 18) 237 [.inr (.inr 6), .inl 40] N' (ri_ fun v4 M4 =>
    (if v4 = 0 then
     V' 220 [rr 6, ii x1, ii x2, ii x3, ii x4, ii x5, ii 0] [] M4
    else
     Tr_ wd0 pg0 (dq + 18) 253 [.inr (.inr 6)] M4 (ri_ fun v5 M5 =>
      V' 220 [rr 6, ii x1, ii x2, ii x3, ii x4, ii x5, ii v5] [] M5) Qtq)) Qtq := q_237s h.1 h.2.1 fun v => by
  by_cases c : v = 0
  · rw [if_pos c]; exact q220_s hx hV hW h hg
  · rw [if_neg c]; exact q253z h.1 fun v => q220_s hx hV hW h hg
theorem y_281 [ig : Inhabited gh_] (hV : Cl_ wd0 (Tr_ wd0 pg0 130) V (rv_ Kv) Qt m_126) (hW : Wk_ V) (hx : 0 ≤ x1 ∧ x1 < 6) (h : HDR b F M N a) (hc : b = 0 → M 124 (M 1 18) = 0 ∧ M 126 (M 1 18) = 0 ∧ N 170 (M 1 18) = 0) (hS : b = 1 → hdP (M 70) (M 73) (DMT M) (M 122 (M 1 18)) a ≠ none)
    (hK : ∀ F' M' N' a' c, HDR b F' M' N' a' → a + 1 ≤ a' → PHF b F F' (up_ M 122 (M 1 18) c) N M' N' → (b = 1 → c = M 122 (M 1 18)) → (0 ≤ c ∧ c ≤ 3) → (b = 0 → N' 170 (M 1 18) = c ∧ c ≤ M' 124 (M 1 18)) → (M' 70 a' ≠ 3 ∧ M' 70 a' ≠ 4) → (∀ dm, DOK b dm M M' → hdP (M 70) (M 73) dm c a = some a') → (∀ (G : mm_ → Prop) (Qtq : qt_), qSR dq x1 x2 x3 x4 x5 c N' G Qtq → qPR dq x1 x2 x3 x4 x5 N G Qtq) → z399 V Qt y1 y2 c M')
    (hQ : b = 0 → ∀ Mx', XPb M Mx' → (∀ (G : mm_ → Prop) (Qtq : qt_), (∀ M', SQp Mx' N M' → G M') → qPR dq x1 x2 x3 x4 x5 N G Qtq) → Qt 8 Mx') :
    V 281 [rr 1, ii y1, ii y2, none, none, none, none] [] M := by
  have hE := TS_E h.1.1
  have hT := h.1.1.1.1
  have ha := ER_a hE
  have hV0 := h.1.1.1.2.1
  have x122 : ∀ {M1 : mm_} {T v : Int}, XPb M1 (up_ M1 122 T v) := fun r hr => up_ne (fun e => hr (by rw [e]; decide))
  refine b_126_281 (Tr_mono _) hV hW _ _ _ ?_
  refine y_117 hE (by decide) (fun k1 => ?_) (fun k1 => ?_)
  · rw [if_neg (by decide)]
    have k1' : M 70 a = 240 := k1
    refine y_118 hE (fun _ => by decide) (fun _ _ => ?_) (fun _ e => absurd e (by decide))
    show V 296 [rr 1, ii y1, ii y2, ii 0, none, none, none] [] (o1_ M)
    have toQ0 : ∀ {G : mm_ → Prop} {Qtq : qt_}, (∀ V' : vv_, Cl_ wd0 (Tr_ wd0 pg0 (dq + 18)) V' (rv_ G) Qtq m_252 → Wk_ V' → ∀ V2 : vv_, Cl_ wd0 (Tr_ wd0 pg0 (dq + 17)) V2 (ri_ fun v5 M5 => V' 220 [rr 6, ii x1, ii x2, ii x3, ii x4, ii x5, ii v5] [] M5) Qtq m_253 → Wk_ V2 → Tr_ wd0 pg0 (dq + 17) 239 [.inr (.inr 6), .inl 40] N (rv_ fun M1 => V2 10 [rr 6, ii 0, ii 1, none, none, none] [] M1) Qtq) → qPR dq x1 x2 x3 x4 x5 N G Qtq := fun hq V' hV' hW' => j_237t hT hE (by decide) k1 (by
      rw [if_neg (by decide)]
      exact t_253 fun V2 hV2 hW2 => b_253_0 (Tr_mono _) hV2 hW2 _ (hq V' hV' hW' V2 hV2 hW2))
    by_cases h12 : a < 1200
    · have toQ : ∀ (G : mm_ → Prop) (Qtq : qt_), (∀ V' : vv_, Cl_ wd0 (Tr_ wd0 pg0 (dq + 18)) V' (rv_ G) Qtq m_252 → Wk_ V' → q53 dq 0 N (fun v5 M5 => V' 220 [rr 6, ii x1, ii x2, ii x3, ii x4, ii x5, ii v5] [] M5) Qtq) → qPR dq x1 x2 x3 x4 x5 N G Qtq := fun G Qtq hq => toQ0 fun V' hV' hW' V2 hV2 hW2 => j_239t hT hE (by decide) k1 h12 (by decide) (by
        have := hq V' hV' hW' V2 hV2 hW2
        rw [← nx_q1] at this
        exact this)
      refine l_296 (dq := dq) hV hW 1201 a 0 F M N (by omega) h h12 (.inl k1') (by decide) (fun hb => ⟨(hc hb).1, (hc hb).2.2⟩) (fun hb => hdP_3 k1' (hS hb)) (fun F' M' N' a' j' H' ha' hj' cn' p' h44 sy hq => ?_) (fun hb Mx' hx' hq => ?_)
      · have hE' := TS_E H'.1.1
        have oE' := ER_o1 hE'
        have oT' : Tks (o1_ M') (q1_ N') := Tks_a (XF_XA o1_XF) (QF_QA q1_QF) H'.1.1.1.1
        have x70 : M' 70 = M 70 := p'.1.1 70 (by decide) (by decide)
        have x73 : M' 73 = M 73 := p'.1.1 73 (by decide) (by decide)
        have e18 : M' 1 18 = M 1 18 := p'.1.2.1 18 (by decide)
        have x122' : M' 122 = M 122 := p'.1.1 122 (by decide) (by decide)
        have w1 : w32 (j' + 1) = j' + 1 := w32_id (by omega) (by omega)
        have toQ1 : ∀ {G : mm_ → Prop} {Qtq : qt_}, (∀ V' : vv_, Cl_ wd0 (Tr_ wd0 pg0 (dq + 18)) V' (rv_ G) Qtq m_252 → Wk_ V' → ∀ V2 : vv_, Cl_ wd0 (Tr_ wd0 pg0 (dq + 17)) V2 (ri_ fun v5 M5 => V' 220 [rr 6, ii x1, ii x2, ii x3, ii x4, ii x5, ii v5] [] M5) Qtq m_253 → Wk_ V2 → Tr_ wd0 pg0 (dq + 17) 243 [.inr (.inr 6), .inl 41] (q1_ N') (rv_ fun M1 => ri_ (fun v5 M5 => V' 220 [rr 6, ii x1, ii x2, ii x3, ii x4, ii x5, ii v5] [] M5) [.inl (j' + 1)] M1) Qtq) → qPR dq x1 x2 x3 x4 x5 N G Qtq := fun hq1 => toQ _ _ fun V' hV' hW' => hq _ _ fun V2 hV2 hW2 => b_253_10 (Tr_mono _) hV2 hW2 _ _ _ (by rw [if_pos rfl]; exact hq1 V' hV' hW' V2 hV2 hW2)
        have syb : b = 1 → PAS (M 70) (DMT M) (a, 0) = (tS (M 70) 241 a').bind fun a5 => some (a5, j' + 1) := fun hb => sy _ ⟨fun hb0 => by omega, fun _ => rfl⟩
        refine y_121 oE' (by decide) (fun hb => by rw [o1_r (by decide), x70]; exact hdP_2 k1' (syb hb) (hS hb)) (fun k2 h13 _ => ?_) (fun hb k2 h13 => ?_) (fun hb k2 => ?_)
        · have k2' : M 70 a' = 241 := by rw [← x70]; rw [o1_r (by decide)] at k2; exact k2
          have hE1 := (ER_go hE' h13 (by rw [x70, k2']; decide)).1
          have H1 := HDR_go H' hE1
          have n18 : nX_ M' 1 18 = M 1 18 := (nX_1 (by decide)).trans e18
          have cb : b = 1 → j' + 1 = M 122 (M 1 18) := fun hb => by
            have := hS hb
            rw [hdP_1 k1' (syb hb) k2' h13] at this
            exact if_bn this
          have cb' : b = 1 → j' + 1 = nX_ M' 122 (nX_ M' 1 18) := fun hb => by rw [n18, nX_ne (by decide), x122']; exact cb hb
          have H2 := HDR_122 (v := j' + 1) H1 cb'
          rw [n18] at H2
          have p2 : PHF b F F' (up_ M 122 (M 1 18) (j' + 1)) N (up_ (nX_ M') 122 (M 1 18) (j' + 1)) (nx_ N') := PHF_122 (PHF_tr p' (PHF_go H' (by rw [x70, k2']; decide)))
          have u : ∀ r : Nat, r ≠ 122 → up_ (nX_ M') 122 (M 1 18) (j' + 1) r = nX_ M' r := fun r h => up_ne h
          have um : ∀ r : Nat, r ≠ 122 → up_ M 122 (M 1 18) (j' + 1) r = M r := fun r h => up_ne h
          have u18 : up_ (nX_ M') 122 (M 1 18) (j' + 1) 1 18 = M 1 18 := by rw [u 1 (by decide)]; exact n18
          have u70 : up_ (nX_ M') 122 (M 1 18) (j' + 1) 70 = M 70 := by rw [u 70 (by decide), nX_ne (by decide)]; exact x70
          have u73 : up_ (nX_ M') 122 (M 1 18) (j' + 1) 73 = M 73 := by rw [u 73 (by decide), nX_ne (by decide)]; exact x73
          have toQ2 : ∀ (G : mm_ → Prop) (Qtq : qt_), q220 dq x1 x2 x3 x4 x5 (j' + 1) (nx_ N') G Qtq → qPR dq x1 x2 x3 x4 x5 N G Qtq := fun G Qtq hq2 => toQ1 fun V' hV' hW' V2 hV2 hW2 => j_243t oT' oE' (by decide) k2 h13 (by decide) (by
            rw [q1_c hE'.2.2.2.2.1]
            exact ri_i (hq2 V' hV' hW'))
          have xb : XPb M (up_ (nX_ M') 122 (M 1 18) (j' + 1)) := XPb_tr (XPb_tr (PHF_X p') XPb_nX) x122
          refine ⟨by rw [nX_1 (by decide), o1_1 (by decide)]; exact H'.1.1.1.2.1.1, by rw [nX_1 (by decide), o1_1 (by decide), e18]; exact hV0.2.2.imp id And.left, ?_⟩
          rw [o1_c hE'.2.2.2.1, w1, show nX_ (o1_ M') 1 18 = M 1 18 by rw [nX_1 (by decide), o1_1 (by decide)]; exact e18]
          refine y_smi (dq := dq) (x1 := x1) (x2 := x2) (x3 := x3) (x4 := x4) (x5 := x5) hV hW hx H2 (fun hb => ?_) (fun hb => ?_) (fun F2 M2 N2 a2 H3 ha3 p3 c3 h34 sy3 q3 => ?_) (fun hb Mx' hx' hq' => ?_)
          · have k := cn' hb
            have k9 := hc hb
            rw [u18, u 124 (by decide), u 126 (by decide), nX_ne (by decide), nX_ne (by decide), nx_ne (by decide)]
            exact ⟨k.1, k.2.2.trans k9.2.1, k.2.1⟩
          · have := hS hb
            rw [hdP_1 k1' (syb hb) k2' h13, if_bd (cb hb)] at this
            rw [u70, u73]
            have ed : DMT (up_ (nX_ M') 122 (M 1 18) (j' + 1)) = DMT M := by rw [DMT_c p2 hb, DMT_122]
            rw [ed]; exact this
          · rw [u70, u73] at sy3
            refine hK F2 M2 N2 a2 (j' + 1) H3 (by (clear hV hW hx h hc hS hK hQ hE hT ha hV0 x122 k1 k1' toQ0 h12 toQ H' hj' cn' p' h44 sy hq hE' oE' oT' x70 x73 e18 x122' w1 toQ1 syb k2 h13 k2' hE1 H1 n18 cb cb' H2 p2 u um u18 u70 u73 toQ2 xb H3 p3 c3 h34 sy3 q3; omega)) (PHF_tr p2 p3) cb (by omega) (fun hb => ?_) h34 (fun dm hd => ?_) (fun G Qtq hg => toQ2 G Qtq (q3 G Qtq hg))
            · have e3 : N2 170 (M 1 18) = j' + 1 := by rw [(c3 hb).1, nx_ne (by decide)]; exact (cn' hb).2.1
              have l3 := (c3 hb).2
              rw [u18, e3] at l3
              exact ⟨e3, l3⟩
            · have o := DOK_s p2 p3 (DOK_122 hd)
              have o1 : DOK b dm M M' := by
                have z : DOK b dm M (nX_ M') := DOK_122' ⟨o.1.1, fun hb => hd.2 hb⟩
                exact (DOK_s p' (PHF_go H' (by rw [x70, k2']; decide)) z).1
              rw [hdP_1 k1' (sy dm o1) k2' h13, if_bd rfl]
              exact sy3 dm o.2
          · exact hQ hb Mx' (XPb_tr xb hx') (fun G Qtq hg => toQ2 G Qtq (hq' G Qtq fun M9 p => hg _ (SQp_tr (QPb_tr (PHF_Q p') QPb_nx) p)))
        · have hsp := SQ_bf oE' hb (k := 2) (by decide) QA_rf
          exact hQ hb _ (XPb_tr (XPb_tr (PHF_X p') XPb_o1) XPb_fl) (fun G Qtq hg => toQ1 fun V' hV' hW' V2 hV2 hW2 => j_243r oT' oE' hb (by decide) k2 h13 (ri_i (q220_s hx hV' hW' (SQp_tr (QPb_tr (PHF_Q p') QPb_q1) (SQ_P hsp)) hg)))
        · have hsp := SQ_bf oE' hb (k := 1) (by decide) QA_rf
          exact hQ hb _ (XPb_tr (XPb_tr (PHF_X p') XPb_o1) XPb_fl) (fun G Qtq hg => toQ1 fun V' hV' hW' V2 hV2 hW2 => j_243w oT' oE' hb (by decide) k2 (ri_i (q220_s hx hV' hW' (SQp_tr (QPb_tr (PHF_Q p') QPb_q1) (SQ_P hsp)) hg)))
      · exact hQ hb Mx' hx' (fun G Qtq hg => toQ G Qtq fun V' hV' hW' => hq _ _ fun v M9 p => q220_s hx hV' hW' p hg)
    · rcases bl01 hE with hb | hb
      · have oE := ER_o1 hE
        refine b_126_296 (Tr_mono _) hV hW _ _ _ _ ?_
        refine y_105 oE (by rw [o1_r (by decide), k1']; decide) (fun hb1 => by omega) (fun h16 _ => by omega) (fun _ h16 => ?_)
        have hsp := SQ_bf oE hb (k := 2) (by decide) QA_rf
        exact hQ hb _ (XPb_tr XPb_o1 XPb_fl) (fun G Qtq hg => toQ0 fun V' hV' hW' V2 hV2 hW2 => j_239r hT hE hb (by decide) k1 h16 (by decide) (q53_s hV2 hW2 hsp.1 fun v => q220_s hx hV' hW' (SQp_tr QPb_q1 (SQ_P hsp)) hg))
      · exact absurd (PAS_g ha.1 ha.2 (hdP_3 k1' (hS hb))) h12
  · rw [if_pos rfl]
    have k1' : M 70 a ≠ 240 := k1
    have cb : b = 1 → 0 = M 122 (M 1 18) := fun hb => by
      have := hS hb
      rw [hdP_0 k1'] at this
      exact (if_bn this).symm
    have H2 := HDR_122 (v := 0) h cb
    have u : ∀ r : Nat, r ≠ 122 → up_ M 122 (M 1 18) 0 r = M r := fun r h => up_ne h
    have toQ2 : ∀ (G : mm_ → Prop) (Qtq : qt_), q220 dq x1 x2 x3 x4 x5 0 N G Qtq → qPR dq x1 x2 x3 x4 x5 N G Qtq := fun G Qtq hq2 V' hV' hW' => j_237f hT hE (by decide) k1 (by rw [if_pos rfl]; exact hq2 V' hV' hW')
    refine ⟨hV0.1, hV0.2.2.imp id And.left, ?_⟩
    refine y_smi (dq := dq) (x1 := x1) (x2 := x2) (x3 := x3) (x4 := x4) (x5 := x5) hV hW hx H2 (fun hb => ?_) (fun hb => ?_) (fun F2 M2 N2 a2 H3 ha3 p3 c3 h34 sy3 q3 => ?_) (fun hb Mx' hx' hq' => ?_)
    · rw [u 1 (by decide), u 124 (by decide), u 126 (by decide)]; exact hc hb
    · have := hS hb
      rw [hdP_0 k1', if_bd (cb hb).symm] at this
      rw [u 70 (by decide), u 73 (by decide), DMT_122]; exact this
    · rw [u 70 (by decide), u 73 (by decide)] at sy3
      refine hK F2 M2 N2 a2 0 H3 (by omega) p3 cb (by decide) (fun hb => by
        have e3 : N2 170 (M 1 18) = 0 := by rw [(c3 hb).1]; exact (hc hb).2.2
        have l3 := (c3 hb).2
        rw [u 1 (by decide), e3] at l3
        exact ⟨e3, l3⟩) h34 (fun dm hd => ?_) (fun G Qtq hg => toQ2 G Qtq (q3 G Qtq hg))
      rw [hdP_0 k1', if_bd rfl]
      exact sy3 dm (DOK_122 hd)
    · exact hQ hb Mx' (XPb_tr x122 hx') (fun G Qtq hg => toQ2 G Qtq (hq' G Qtq hg))
end HPp
end T246_hp
section T247_st
/-! a trans alone (START): growth -/
section GS
variable {b F F' : Int} {M N M1 N1 M' N' M2 N2 Mx Mq : mm_} {a a' mx st mk v kk t p ee k c T : Int}
theorem STA_t [Inhabited gh_] (h : STA b F Mx Mq a ee) (hT : TS b F' (Xn_ M' b kk a') (Qn_ N' b kk (M' 71 a')) a') (hP : PRC b F F' (sX_ Mx mx) (tM_ Mq st mk) M' N' a a' 0 0 (Mq 6 76)) : STA b F' (Xn_ M' b kk a') (Qn_ N' b kk (M' 71 a')) a' ee := by
  obtain ⟨h1, ⟨s1, s2, s3⟩, h4⟩ := h
  have ha : a ≤ a' := hP.2.2.2.2.1.1
  have hx := hP.2.2.1.1
  have hq := hP.2.2.1.2
  have xa : XA M' (Xn_ M' b kk a') := XF_XA Xn_XF
  have qa : QA N' (Qn_ N' b kk (M' 71 a')) := QF_QA (QN_QF QN_Qn)
  have xx := XA_tr hx xa
  have qq := QA_tr hq qa
  have e5 : sX_ Mx mx 5 = Mx 5 := sX_r (by decide) (by decide) (by decide) (by decide) (by decide)
  have f54 : Xn_ M' b kk a' 5 4 = Mx 5 4 := by rw [xx.2.2 4 (by decide), e5]
  have f62 : Qn_ N' b kk (M' 71 a') 6 62 = Mq 6 62 := by rw [qq.2 62 (by decide)]; exact tM_6 (by decide) (by decide) (by decide)
  have f63 : Qn_ N' b kk (M' 71 a') 6 63 = Mq 6 63 := by rw [qq.2 63 (by decide)]; exact tM_6 (by decide) (by decide) (by decide)
  refine ⟨hT, ⟨by rw [f54]; omega, by rw [f62]; (clear hT hP h1 h4 s1 s3 hx hq xa qa xx qq e5 f54 f63; lia), by rw [f63]; (clear hT hP h1 h4 s1 s2 hx hq xa qa xx qq e5 f54 f62; lia)⟩, fun hb => ?_⟩
  obtain ⟨⟨xs, hs⟩, hl⟩ := h4 hb
  refine ⟨⟨xs, SRW_a (SRW_t hs) xx qq⟩, fun h => ?_⟩
  rw [f62, f63, QA_r qq (r := 199) (by decide), tM_r (by decide) (by decide) (by decide) (by decide) (by decide) (by decide)]
  rw [f62] at h
  exact hl h
theorem PRS_tn [Inhabited gh_] (hb : b = 1) (s0 : SCL M1 N1) (h53 : 0 ≤ M1 5 3) (h90 : 0 ≤ N1 6 90) (h61 : N1 6 61 = M1 1 18) (hmb : (mx = -1 ∧ st ≠ 0) ∨ (mx ≠ -1 ∧ st = 0 ∧ MB (M1 123 (M1 1 18)) mx mk))
    (P : PRC b F F' (sX_ M1 mx) (tM_ N1 st mk) M' N' a a' 0 0 (N1 6 76)) (Sm : SEM b (sX_ M1 mx) (tM_ N1 st mk) M' N' v) (hv : v = 0 ∨ v = 1) (hkk : kk = if v = 0 then 6 else 0) (E3 : b = 1 → Qn_ N' b kk p 6 13 = 0 → kk = 0 ∧ N' 6 13 = 0) :
    PRS b M1 N1 (Xn_ M' b kk t) (Qn_ N' b kk p) ∧ (Qn_ N' b kk p 6 13 = 0 → ATP (Xn_ M' b kk t) (Qn_ N' b kk p) (M1 1 18) (N1 6 75) (M1 5 3)) := by
  have z0 := s0.1
  obtain ⟨ot, x29, q76⟩ := OLD_t hb (by omega) P
  have oX : OLX M1 (Xn_ M' b kk t) := OLX_tr ot.1 OLX_Xn
  have oQ : OLQ (10 * M1 1 18 + M1 1 19) (10 * M1 1 18 + 10) N1 (Qn_ N' b kk p) := OLQ_tr (Int.le_refl _) ot.2 OLQ_Qn
  have y1 : ∀ i : Int, i ≠ 4 → i ≠ 5 → i ≠ 7 → Xn_ M' b kk t 1 i = M' 1 i := fun i h4 h5 h7 => Xn_1 h4 h5 h7
  have yr : ∀ r : Nat, r ≠ 1 → Xn_ M' b kk t r = M' r := fun r h0 => Xn_r h0
  have n6 : ∀ i : Int, i ≠ 13 → i ≠ 14 → Qn_ N' b kk p 6 i = N' 6 i := fun i h h' => Qn_6 h h'
  have nr : ∀ r : Nat, r ≠ 6 → Qn_ N' b kk p r = N' r := fun r h => Qn_r h
  have qz : OLQ 0 0 N' (Qn_ N' b kk p) := OLQ_Qn
  have n62 : N' 6 62 = N1 6 62 := by rw [P.2.2.1.2.2 62 (by decide)]; exact tM_6 (by decide) (by decide) (by decide)
  have m22 : M' 1 22 = M1 1 22 := by rw [P.2.2.1.1.2.1 22 (by decide), sX_1 (by decide)]
  generalize eM : Xn_ M' b kk t = M9 at *
  generalize eN : Qn_ N' b kk p = N9 at *
  have all : N9 6 13 = 0 → N1 6 13 = 0 ∧ ATP M9 N9 (M1 1 18) (N1 6 75) (M1 5 3) ∧ NWF M1 N1 M9 N9 := fun hz => by
    have ez := E3 hb hz
    have hv1 : v = 1 := by
      rcases hv with h | h
      · rw [if_pos h] at hkk; omega
      · exact h
    obtain ⟨zz, atp, lb, tw, sb⟩ := NEW_t hb (by omega) h53 (by omega) h90 h61 hmb P Sm hv1 ez.2
    have up : ∀ {k c : Int}, ATP M' N' (M1 1 18) k c → ATP M9 N9 (M1 1 18) k c := fun h => ATP_g h (by rw [yr 5 (by decide)]; exact Int.le_refl _) (fun i _ _ => by rw [yr 142 (by decide)]) qz
    refine ⟨zz, up atp, fun k k0 k1 j j0 j1 => ?_, fun l l0 l1 => ?_, fun x x0 x1 => ?_, ?_, ?_⟩
    · rw [n6 62 (by decide) (by decide)] at k1; (clear hb s0 h53 h90 h61 hmb P Sm hv hkk z0 ot x29 q76 m22 eM oX y1 yr eN E3 oQ n6 nr qz hz ez hv1 zz atp lb tw sb up j0 j1; omega)
    · rw [y1 19 (by decide) (by decide) (by decide)] at l1
      have := lb l (by omega) l1
      rw [nr 188 (by decide), nr 189 (by decide), yr 129 (by decide), n6 76 (by decide) (by decide)]
      exact ⟨up this.1, by (clear hb s0 h53 h90 h61 hmb P Sm hv hkk z0 ot x29 n62 m22 eM oX y1 yr eN E3 oQ n6 nr qz hz ez hv1 zz atp lb tw sb up l0 l1; omega), by (clear hb s0 h53 h90 h61 hmb P Sm hv hkk z0 ot x29 n62 m22 eM oX y1 yr eN E3 oQ n6 nr qz hz ez hv1 zz atp lb tw sb up l0 l1; omega)⟩
    · rw [y1 29 (by decide) (by decide) (by decide)] at x1
      rw [show x = M1 1 29 by (clear hb s0 h53 h90 h61 hmb P Sm hv hkk z0 ot q76 n62 m22 eM oX y1 yr eN E3 oQ n6 nr qz hz ez hv1 zz atp lb tw sb up; omega), show N1 6 76 + (M1 1 29 - M1 1 29) = N1 6 76 by omega]
      unfold TRW at tw ⊢
      rw [nr 211 (by decide), nr 215 (by decide), nr 212 (by decide), nr 213 (by decide), nr 214 (by decide), nr 189 (by decide), yr 66 (by decide), yr 123 (by decide), yr 63 (by decide), yr 65 (by decide), yr 64 (by decide), y1 19 (by decide) (by decide) (by decide)]
      exact tw
    · unfold SBS at sb ⊢
      rw [y1 21 (by decide) (by decide) (by decide), y1 23 (by decide) (by decide) (by decide), nr 203 (by decide), nr 205 (by decide), n6 75 (by decide) (by decide)]
      exact sb
    · intro hg
      rw [y1 22 (by decide) (by decide) (by decide), m22]
      refine ⟨hg, fun s _ _ => ⟨fun h => .inl h, fun h => ?_⟩⟩
      rcases h with h | ⟨k, i, hk, _⟩
      · exact h
      · rw [n6 62 (by decide) (by decide)] at hk; (clear hb s0 h53 h90 h61 hmb P Sm hv hkk z0 ot x29 q76 m22 eM oX y1 yr eN E3 oQ n6 nr qz hz ez hv1 zz atp lb tw sb up hg; omega)
  refine ⟨fun _ => ⟨⟨oX, oQ⟩, by rw [y1 29 (by decide) (by decide) (by decide), n6 76 (by decide) (by decide)]; (clear hb s0 h53 h90 h61 hmb P Sm hv hkk z0 ot n62 m22 eM oX y1 yr eN E3 oQ n6 nr qz all; omega), fun hz => ⟨(all hz).1, (all hz).2.2⟩⟩, fun hz => (all hz).2.1⟩
theorem ATP_P [Inhabited gh_] (h : ATP M N T k c) (hb : b = 1) (hp : PRS b M N M1 N1) : ATP M1 N1 T k c := by
  obtain ⟨o, _, _⟩ := hp hb
  exact ATP_g h o.1.2.1.1 o.1.2.2.1 o.2
end GS
end T247_st
section T248_sw
/-! a process from START to its end (X 126 | Q 252) -/
def pbS (κ ν : Int → Int) (lm : Int → Int → Bool) (sm : Int → Bool) (s : sj_) : Option sj_ := (tS κ 5 s.1).bind fun a1 => (tS κ 259 a1).bind fun a2 => (PTj κ lm 12 (a2, s.2)).bind (PSS κ ν lm sm)
/-- both, where the trans of START begins -/
def sBX (M : mm_) : mm_ := up_ (nX_ (nX_ M)) 127 (M 1 18) (M 5 3)
def sBQ (M N : mm_) : mm_ := up_ (nx_ (nx_ N)) 176 (M 1 18) (N 6 75)
section SWk
variable {dq : Nat} {b F : Int} {x2 x3 x4 x5 c y1 y2 y3 : Int} {Kv G : mm_ → Prop} {Qt Qtq : qt_} {V V' : vv_} {M N Mx' M' N' : mm_} {a a' : Int}
theorem sBX_r [ig : Inhabited gh_] {r : Nat} (h : r ≠ 127) (h1 : r ≠ 1) : sBX M r = M r := by unfold sBX; rw [up_ne h, nX_ne h1, nX_ne h1]
theorem sBX_1 [ig : Inhabited gh_] {i : Int} (h : i ≠ 3) : sBX M 1 i = M 1 i := by unfold sBX; rw [up_ne (by decide), nX_1 h, nX_1 h]
theorem sBQ_r [ig : Inhabited gh_] {r : Nat} (h : r ≠ 176) (h1 : r ≠ 6) : sBQ M N r = N r := by unfold sBQ; rw [up_ne h, nx_ne h1, nx_ne h1]
theorem sBQ_6 [ig : Inhabited gh_] {i : Int} (h : i ≠ 12) : sBQ M N 6 i = N 6 i := by unfold sBQ; rw [up_ne (by decide), nx_6 h, nx_6 h]
theorem pbS_e [ig : Inhabited gh_] {κ ν : Int → Int} {lm : Int → Int → Bool} {sm : Int → Bool} {j : Int} (k1 : κ a = 5) (h12 : a < 1200) (k2 : κ (a + 1) = 259) (h13 : a + 1 < 1200) : pbS κ ν lm sm (a, j) = (PTj κ lm 12 (a + 1 + 1, j)).bind (PSS κ ν lm sm) := by
  unfold pbS; rw [tS_e k1 h12, Option.bind_some, tS_e k2 h13, Option.bind_some]
theorem y_str [ig : Inhabited gh_] (hV : Cl_ wd0 (Tr_ wd0 pg0 130) V (rv_ Kv) Qt m_126) (hW : Wk_ V) (h : STA b F M N a 0) (hS : b = 1 → pbS (M 70) (M 73) (LMT M) (SMT N) (a, lc_ b M) ≠ none)
    (hK : ∀ F' M' N' a', STA b F' M' N' a' 0 → a + 4 ≤ a' → PRS b (sBX M) (sBQ M N) M' N' → STF b F F' (sBX M) (sBQ M N) M' N' → (b = 1 → N' 6 13 = 0 → ATP M' N' (M 1 18) (N 6 75) (M 5 3)) → (∀ lm sm, LOK b lm M M' → SOK b sm N N' → pbS (M 70) (M 73) lm sm (a, lc_ b M) = some (a', lc_ b M')) → (∀ (G : mm_ → Prop) (Qtq : qt_), G N' → qSR dq (M 1 18) x2 x3 x4 x5 c N G Qtq) → R461 Kv Qt M')
    (hQ : b = 0 → ∀ Mx', XPb M Mx' → (∀ (G : mm_ → Prop) (Qtq : qt_), (∀ M', SQp Mx' N M' → G M') → qSR dq (M 1 18) x2 x3 x4 x5 c N G Qtq) → Qt 8 Mx') :
    z399 V Qt y1 y2 y3 M := by
  have hE := TS_E h.1
  have hT := h.1.1.1
  have ha := ER_a hE
  have hV0 := h.1.1.2.1
  have hx : 0 ≤ M 1 18 ∧ M 1 18 < 6 := hV0.2.2.imp id And.left
  have fl := h.1.2.2.2.2.2.1
  have u := h.1.2.2.2.2.1
  unfold z399
  refine y_108 hE (by decide) (fun hb => bind_n (hS hb)) (fun k1 h12 hE1 => ?_) (fun hb k1 h12 => ?_) (fun hb k1 => ?_)
  rotate_left
  · have hsp := SQ_bf hE hb (k := 2) (by decide) QA_rf
    have s9 := SQp_u (r := 176) (i := M 1 18) (v := bf_ N 2 (M 71 a) 6 75) (SQ_P hsp) (by decide)
    exact hQ hb _ XPb_fl (fun G Qtq hg V' hV' hW' => j_250r hT hE hb (by decide) k1 h12 (q_244s hsp.1 ⟨hx, q_260z s9.1 (q59_s hV' hW' s9.1 (hg _ s9))⟩))
  · have hsp := SQ_bf hE hb (k := 1) (by decide) QA_rf
    have s9 := SQp_u (r := 176) (i := M 1 18) (v := bf_ N 1 (M 71 a) 6 75) (SQ_P hsp) (by decide)
    exact hQ hb _ XPb_fl (fun G Qtq hg V' hV' hW' => j_250w hT hE hb (by decide) k1 (q_244s hsp.1 ⟨hx, q_260z s9.1 (q59_s hV' hW' s9.1 (hg _ s9))⟩))
  have S1 := STA_go h hE1
  have hT1 := S1.1.1.1
  have x70 : nX_ M 70 = M 70 := nX_ne (by decide)
  refine y_121 hE1 (by decide) (fun hb => by
    rw [x70]
    have := hS hb
    unfold pbS at this
    rw [tS_e k1 h12, Option.bind_some] at this
    exact bind_n this) (fun k2 h13 hE2 => ?_) (fun hb k2 h13 => ?_) (fun hb k2 => ?_)
  rotate_left
  · have hsp := SQ_bf hE1 hb (k := 2) (by decide) QA_rf
    have s9 := SQp_u (r := 176) (i := M 1 18) (v := bf_ (nx_ N) 2 (nX_ M 71 (a + 1)) 6 75) (SQp_tr QPb_nx (SQ_P hsp)) (by decide)
    exact hQ hb _ (XPb_tr XPb_nX XPb_fl) (fun G Qtq hg V' hV' hW' => j_250t hT hE (by decide) k1 h12 (j_244r hT1 hE1 hb (by decide) k2 h13 ⟨hx, q_260z s9.1 (q59_s hV' hW' s9.1 (hg _ s9))⟩))
  · have hsp := SQ_bf hE1 hb (k := 1) (by decide) QA_rf
    have s9 := SQp_u (r := 176) (i := M 1 18) (v := bf_ (nx_ N) 1 (nX_ M 71 (a + 1)) 6 75) (SQp_tr QPb_nx (SQ_P hsp)) (by decide)
    exact hQ hb _ (XPb_tr XPb_nX XPb_fl) (fun G Qtq hg V' hV' hW' => j_250t hT hE (by decide) k1 h12 (j_244w hT1 hE1 hb (by decide) k2 ⟨hx, q_260z s9.1 (q59_s hV' hW' s9.1 (hg _ s9))⟩))
  have S2 := STA_go S1 hE2
  have k2' : M 70 (a + 1) = 259 := by rw [← x70]; exact k2
  have eS : ∀ lm sm, pbS (M 70) (M 73) lm sm (a, lc_ b M) = (PTj (M 70) lm 12 (a + 1 + 1, lc_ b M)).bind (PSS (M 70) (M 73) lm sm) := fun lm sm => pbS_e k1 h12 k2' h13
  have toQ : ∀ {G : mm_ → Prop} {Qtq : qt_}, (∀ V' : vv_, Cl_ wd0 (Tr_ wd0 pg0 (dq + 18)) V' (rv_ G) Qtq m_252 → Wk_ V' → Tr_ wd0 pg0 (dq + 16) 260 [.inr (.inr 6), .inl 1, .inl 0] (sBQ M N) (rv_ fun M5 => V' 259 [rr 6, ii (M 1 18), ii x2, ii x3, ii x4, ii x5, ii c] [] M5) Qtq) → qSR dq (M 1 18) x2 x3 x4 x5 c N G Qtq := fun hq V' hV' hW' => j_250t hT hE (by decide) k1 h12 (j_244t hT1 hE1 (by decide) k2 h13 ⟨hx, Tr_le (d := dq + 16) (by (clear hV hW h hS hK hQ hE hT ha hV0 hx fl u k1 h12 hE1 S1 hT1 x70 k2 h13 hE2 S2 k2' eS hq hV' hW'; lia)) (by
    have := hq V' hV' hW'
    unfold sBQ at this
    rw [show N 6 75 = nx_ (nx_ N) 6 75 by rw [nx_6 (by decide), nx_6 (by decide)]] at this
    exact this)⟩)
  have e18 : nX_ (nX_ M) 1 18 = M 1 18 := by rw [nX_1 (by decide), nX_1 (by decide)]
  have e53 : nX_ (nX_ M) 5 3 = M 5 3 := by rw [nX_ne (by decide), nX_ne (by decide)]
  have S3 : STA b F (sBX M) (sBQ M N) (a + 1 + 1) 0 := STA_le (STA_nr (M1 := sBX M) (N1 := sBQ M N) S2 (fun r _ _ _ h => up_ne h) (fun _ => up_ne (by decide)) (fun r _ _ h => up_ne h)) (by decide)
  have v12 : nX_ (nX_ M) 1 2 = 5 := by rw [nX_1 (by decide), nX_1 (by decide)]; exact hV0.1
  refine ⟨v12, v12, by rw [e18]; exact hx, ?_⟩
  rw [e18, e53]
  show Tr_ wd0 pg0 130 131 [.inr (.inr 1), .inl (-1)] (sBX M) (rv_ fun M6 => Tr_ wd0 pg0 130 132 [.inr (.inr 1)] M6 (rv_ fun M7 => V 461 [rr 1, ii y1, ii y2, ii y3, none, none, none] [] M7) Qt) Qt
  have b70 : sBX M 70 = M 70 := sBX_r (by decide) (by decide)
  have b73 : sBX M 73 = M 73 := sBX_r (by decide) (by decide)
  have lk := LKP_X (b := b) (M1 := sBX M) (Mx := M) (sBX_r (by decide) (by decide)) (sBX_r (by decide) (by decide)) (sBX_1 (by decide)) (sBX_1 (by decide))
  have b18 : sBX M 1 18 = M 1 18 := sBX_1 (by decide)
  have b29 : sBX M 1 29 = M 1 29 := sBX_1 (by decide)
  have b7 : sBX M 1 7 = M 1 7 := sBX_1 (by decide)
  have b53 : sBX M 5 3 = M 5 3 := by rw [sBX_r (by decide) (by decide)]
  have q76 : sBQ M N 6 76 = N 6 76 := sBQ_6 (by decide)
  have q75 : sBQ M N 6 75 = N 6 75 := sBQ_6 (by decide)
  have sm0 : SMT (sBQ M N) = SMT N := by
    unfold SMT stt
    rw [sBQ_r (r := 151) (by decide) (by decide), sBQ_6 (i := 61) (by decide), sBQ_r (r := 174) (by decide) (by decide), sBQ_r (r := 179) (by decide) (by decide)]
  have xp : XPb M (sBX M) := fun r hr => sBX_r (fun e => hr (by rw [e]; decide)) (fun e => hr (by rw [e]; decide))
  have qp : QPb N (sBQ M N) := ⟨fun r hr => sBQ_r (fun e => hr (by unfold QPRr; (clear hV hW h hS hK hQ hE hT ha hV0 hx fl u k1 h12 hE1 S1 hT1 x70 k2 h13 hE2 S2 k2' eS toQ e18 e53 S3 v12 b70 b73 lk b18 b29 b7 b53 q76 q75 sm0 xp hr; omega))) (fun e => hr (by unfold QPRr; (clear hV hW h hS hK hQ hE hT ha hV0 hx fl u k1 h12 hE1 S1 hT1 x70 k2 h13 hE2 S2 k2' eS toQ e18 e53 S3 v12 b70 b73 lk b18 b29 b7 b53 q76 q75 sm0 xp hr; lia))), fun i hi => sBQ_6 (nm_i hi (by decide))⟩
  have q61 : sBQ M N 6 61 = sBX M 1 18 := S3.1.1.2.1.2.1
  have x53 : 0 ≤ sBX M 5 3 := (TS_E S3.1).2.2.2.2.2.2.2.2.2.2.2.2.2.1
  have x90 : 0 ≤ sBQ M N 6 90 := S3.1.2.2.2.2.2.2.1.1
  generalize eB : sBX M = B at *
  generalize eN : sBQ M N = BN at *
  clear eB eN
  refine Tr_m (y_trn (d := 129) (dq := dq) (st := 1) (mk := 0) (mx := -1) (Qt := Qt) (Kv := fun M7 => V 461 [rr 1, ii y1, ii y2, ii y3, none, none, none] [] M7) S3.1 (by rw [b29]; (clear hV hW h hS hQ hE hT ha hV0 hx fl k1 h12 hE1 S1 hT1 x70 k2 h13 hE2 S2 k2' eS e18 e53 v12 b70 b73 lk b18 b7 b53 xp x53 toQ q76 q75 sm0 qp x90 hK S3 q61; omega)) (by rw [q76]; (clear hV hW h hS hQ hE hT ha hV0 hx fl k1 h12 hE1 S1 hT1 x70 k2 h13 hE2 S2 k2' eS e18 e53 v12 b70 b73 lk b18 b29 b7 b53 xp x53 toQ q75 sm0 qp x90 hK S3 q61; lia)) (by rw [b7]; omega) (fun _ => ⟨fun _ => by decide, fun _ => rfl⟩) (.inr rfl) (fun hb => ?_) (fun F' M' N' a' v kk hTS P Sm hv hkk E3 hsy hq => ?_) (fun hb Mx' hx' hq => ?_)) (fun vs M1 hh => ⟨hh.1, Tr_le (d := 128) (by decide) hh.2⟩) (fun _ _ hh => hh)
  · have := hS hb
    rw [eS] at this
    rw [b70, lk.1.2.2.2 hb, lk.2]
    exact bind_n this
  · have S4 := STA_t S3 hTS P
    have pa : a + 1 + 1 ≤ a' := P.2.2.2.2.1.1
    have L4 : LNF b F F' B BN (Xn_ M' b kk a') (Qn_ N' b kk (M' 71 a')) := LNF_t P
    have hST := STF_l L4
    have PR : PRS b B BN (Xn_ M' b kk a') (Qn_ N' b kk (M' 71 a')) := fun hb => (PRS_tn hb (STA_SCL S3 hb) x53 x90 q61 (.inl ⟨rfl, by decide⟩) P Sm hv hkk E3).1 hb
    have AT : b = 1 → Qn_ N' b kk (M' 71 a') 6 13 = 0 → ATP (Xn_ M' b kk a') (Qn_ N' b kk (M' 71 a')) (B 1 18) (BN 6 75) (B 5 3) := fun hb => (PRS_tn hb (STA_SCL S3 hb) x53 x90 q61 (.inl ⟨rfl, by decide⟩) P Sm hv hkk E3).2
    have lcn : lc_ b (Xn_ M' b kk a') = lc_ b M' := (LKP_F Xn_XF).2
    have lok : ∀ lm, LOK b lm B (Xn_ M' b kk a') → LOK b lm B M' := fun lm hl => ⟨fun hb j j0 j1 => by
      have := hl.1 hb j j0 (by rw [lcn]; exact j1)
      rw [Xn_r (by decide)] at this; exact this, hl.2⟩
    rw [b70, lk.2] at hsy
    rw [← lcn] at hsy
    have hsy' : ∀ lm, LOK b lm B (Xn_ M' b kk a') → PTj (M 70) lm 12 (a + 1 + 1, lc_ b M) = some (a', lc_ b (Xn_ M' b kk a')) := fun lm hl => hsy lm (lok lm hl)
    generalize Xn_ M' b kk a' = M4 at *
    generalize Qn_ N' b kk (M' 71 a') = N4 at *
    have m70 : M4 70 = M 70 := (L4.1.1 70 (by decide)).trans b70
    have m73 : M4 73 = M 73 := (L4.1.1 73 (by decide)).trans b73
    have u12 : ∀ {M1 N1 : mm_} {a1 e1 F1 : Int}, STA b F1 M1 N1 a1 e1 → XSb B M1 → M1 123 (B 1 18) ≤ 12 := fun hs hx => by
      have := hs.1.2.2.2.1.1
      rw [hx.2.1 18 (by decide)] at this; exact this.2.1
    refine l_461 (dq := dq) (x1 := M 1 18) (x2 := x2) (x3 := x3) (x4 := x4) (x5 := x5) (x6 := c) hV hW 1201 a' F' M4 N4 (by (clear hV hW h hS hQ hE hT ha hV0 hx fl k1 h12 hE1 S1 hT1 x70 k2 h13 hE2 S2 k2' eS e18 e53 v12 b70 b73 lk b18 b29 b7 b53 xp x53 toQ q75 sm0 qp x90 hK S3 q61 P Sm hv hkk hsy lcn lok hsy' E3 hq hTS S4 L4 hST PR AT m70 m73 u12; lia)) S4 (fun hb => ?_) (fun F2 M5 N5 a5 S5 ha5 P5 f5 sy5 hq5 => ?_) (fun hb Mx' hx' hq' => ?_)
    · have h9 := hS hb
      rw [eS, hsy' _ ⟨fun hb0 => by omega, fun hb => (lk.1.2.2.2 hb).symm⟩, Option.bind_some] at h9
      rw [m70, m73, L4.2.2.1.2.2.2 hb, lk.1.2.2.2 hb, SMT_c hST hb, sm0]; exact h9
    · refine hK F2 M5 N5 a5 S5 (by (clear hV hW h hS hQ hE hT ha hV0 hx fl u k1 h12 hE1 S1 hT1 x70 k2 h13 hE2 S2 k2' eS e18 e53 v12 b70 b73 lk b18 b29 b7 b53 xp x53 toQ q76 q75 sm0 qp x90 hK S3 q61 P Sm hv hkk hsy lcn lok hsy' E3 hq hTS S4 L4 hST PR AT m70 m73 u12 S5 P5 f5 sy5 hq5; omega)) (PRS_tr (fun hb => STA_SCL S3 hb) (fun hb => STA_SCL S4 hb) PR P5) (STF_tr (by rw [b18]; exact hx.1) (u12 S5 (XSb_tr L4.1 f5.1)) hST f5) (fun hb hz => ?_) (fun lm sm hlm hsm => ?_) (fun G Qtq hg => toQ fun V' hV' hW' => hq _ _ (hq5 G Qtq hg V' hV' hW'))
      · have := AT hb ((P5 hb).2.2 hz).1
        rw [b18, q75, b53] at this
        exact ATP_P this hb P5
      · have l1 := LOK_s lk.1 (LKP_tr L4.2.2.1 f5.2.2.1) hlm
        have l2 := LOK_s L4.2.2.1 f5.2.2.1 l1.2
        have mono : ∀ v, b = 0 → stt N4 v ≠ -1 → stt N5 v ≠ -1 := fun v hb hv => by
          have z := S4.1.2.2.2.1.1
          have z' := S5.1.2.2.2.1.1
          have e8 : M5 1 18 = M4 1 18 := f5.1.2.1 18 (by decide)
          exact stt_m (M := M4) (M1 := M5) (b := b) S4.1.1.2.1.2.1 (f5.2.1.2 61 (by decide)) z.2.2 z.1 (by rw [← e8]; exact z'.2.2) f5.2.2.2.1 hv
        have o := SOK_s (N1 := N4) (N2 := N5) (Mq := N) (QSb_r f5.2.1 (by decide)) mono (fun hb => by rw [SMT_c hST hb, sm0]) hsm
        have e := sy5 lm sm l2.2 o.2
        rw [m70, m73] at e
        rw [eS, hsy' lm l2.1, Option.bind_some]; exact e
    · exact hQ hb Mx' (XPb_tr xp (XSb_P (XSb_tr L4.1 hx'))) (fun G Qtq hg => toQ fun V' hV' hW' => hq _ _ (hq' G Qtq (fun M9 p => hg _ ⟨p.1, p.2.1, p.2.2.1, p.2.2.2.1, QPb_tr qp (QSb_P (QSb_tr L4.2.1 p.2.2.2.2))⟩) V' hV' hW'))
  · exact hQ hb Mx' (XPb_tr xp (XSb_P hx')) (fun G Qtq hg => toQ fun V' hV' hW' => hq _ _ fun M9 p1 p2 p3 p4 p5 => q59_s hV' hW' p1 (hg _ ⟨p1, p2, p3, p4, QPb_tr qp (QSb_P p5)⟩))
end SWk
end T248_sw
section T249_pd
/-! a process behind its counts, whole (X 126 V 281 | Q 252) -/
def GHP [ig : Inhabited gh_] : Prop := ff_ = 0 ∧ hh_ = 0 ∧ ∀ k : Int, bb_ k = bb_ 0
noncomputable def bL (D : Int → Prop) (κ : Int → Int) (c : Int) : Nat → Int
  | 0 => c
  | n + 1 => @ite Int (D (n : Int)) (Classical.propDecidable _) (min (bL D κ c n) (κ (n : Int))) (bL D κ c n)
/-- names, labels told twice: the key of a note -/
def DUN (M N : mm_) (T f : Int) : Prop := ∃ u v, (DCL M T u ∧ DCL M T v ∧ u < v) ∧ N 151 u = N 151 v ∧ f = 8 * M 71 v + 3
def DUL (M N : mm_) (T m f : Int) : Prop := ∃ k i : Int, (0 ≤ i ∧ i < k ∧ k < m) ∧ N 180 (10 * T + i) = N 180 (10 * T + k) ∧ f = 8 * M 71 (M 62 (10 * T + k)) + 3
def PBG (b F F' : Int) (M N M' N' : mm_) : Prop := (b = 0 → (F' = F ∨ DUN M' N' (M 1 18) F' ∨ DUL M' N' (M 1 18) (M' 128 (M 1 18)) F') ∧ ∃ ah, (∀ dm pm, DOK b dm M M' → pm = M' 122 (M 1 18) → hdP (M 70) (M 73) dm pm (M 1 3) = some ah) ∧ ∀ u, DCL M' (M 1 18) u → M 1 3 ≤ u ∧ u < ah)
  ∧ (b = 1 → kk_ (N' 6 13) (N' 6 14) ≤ kk_ (N 6 13) (N 6 14) ∧ (∀ ah, hdP (M 70) (M 73) (DMT M) (M 122 (M 1 18)) (M 1 3) = some ah → (∀ u, DCL M (M 1 18) u → M 1 3 ≤ u ∧ u < ah) → ∀ f, DUN M N (M 1 18) f → kk_ (N' 6 13) (N' 6 14) ≤ f) ∧ ∀ f, DUL M N (M 1 18) (M' 1 19) f → kk_ (N' 6 13) (N' 6 14) ≤ f)
section GHi
theorem bL_le [ig : Inhabited gh_] {D : Int → Prop} {κ : Int → Int} {c : Int} : ∀ n : Nat, bL D κ c n ≤ c
  | 0 => Int.le_refl _
  | n + 1 => by
    have := bL_le (D := D) (κ := κ) (c := c) n
    unfold bL; split <;> omega
theorem bL_s [ig : Inhabited gh_] {D : Int → Prop} {κ : Int → Int} {c : Int} (n : Nat) : bL D κ c (n + 1) ≤ bL D κ c n ∧ (D n → bL D κ c (n + 1) ≤ κ n) ∧ (bL D κ c n ≤ bL D κ c (n + 1) ∨ (D n ∧ κ n ≤ bL D κ c (n + 1))) := by
  have e : bL D κ c (n + 1) = @ite Int (D (n : Int)) (Classical.propDecidable _) (min (bL D κ c n) (κ (n : Int))) (bL D κ c n) := rfl
  rw [e]
  split
  · rename_i h
    refine ⟨by omega, fun _ => by omega, ?_⟩
    by_cases c1 : bL D κ c n ≤ κ n
    · left; omega
    · right; exact ⟨h, by omega⟩
  · rename_i h
    exact ⟨by omega, fun c1 => absurd c1 h, .inl (by omega)⟩
theorem bL_d [ig : Inhabited gh_] {D : Int → Prop} {κ : Int → Int} {c : Int} : ∀ (n : Nat) (k : Int), D k → 0 ≤ k → k < n → bL D κ c n ≤ κ k
  | 0, k, _, h0, h1 => by omega
  | n + 1, k, h, h0, h1 => by
    by_cases e : k = n
    · rw [e] at h ⊢; exact (bL_s n).2.1 h
    · have := bL_d (κ := κ) (c := c) n k h h0 (by omega)
      have := (bL_s (D := D) (κ := κ) (c := c) n).1
      omega
theorem TS_i [ig : Inhabited gh_] (i1 i2 : Inhabited gh_) {b F : Int} {M N : mm_} {a : Int} (h : @TS i1 b F M N a) (hg : @gg_ i2 = @gg_ i1) (hk : b = 1 → kk_ (N 6 13) (N 6 14) ≤ @bb_ i2 (M 1 19)) (hl : @LBG i2 b F M N) : @TS i2 b F M N a := by
  obtain ⟨⟨t1, t2, t3, t4⟩, g, ⟨l1, l2, _⟩, s1, s2, s3, s4⟩ := h
  exact ⟨⟨t1, t2, ER_i i1 i2 t3 hg hk, t4⟩, g, ⟨l1, l2, hl⟩, s1, s2, by rw [hg]; exact s3, s4⟩
theorem STA_i [ig : Inhabited gh_] (i1 i2 : Inhabited gh_) {b F : Int} {M N : mm_} {a ee : Int} (h : @STA i1 b F M N a ee) (hg : @gg_ i2 = @gg_ i1) (hk : b = 1 → kk_ (N 6 13) (N 6 14) ≤ @bb_ i2 (M 1 19)) (hl : @LBG i2 b F M N) : @STA i2 b F M N a ee := ⟨TS_i i1 i2 h.1 hg hk hl, h.2⟩
theorem HDR_i [ig : Inhabited gh_] (i1 i2 : Inhabited gh_) {b F : Int} {M N : mm_} {a : Int} (h : @HDR i1 b F M N a) (hg : @gg_ i2 = @gg_ i1) (hk : b = 1 → kk_ (N 6 13) (N 6 14) ≤ @bb_ i2 (M 1 19)) (hl : @LBG i2 b F M N) (hd : @HDG i2 b F M N (M 1 18)) : @HDR i2 b F M N a := ⟨STA_i i1 i2 h.1 hg hk hl, h.2.1, h.2.2.1, hd⟩
theorem ER_ki [ig : Inhabited gh_] (i : Inhabited gh_) {b F : Int} {M N : mm_} {a o : Int} (h : @ER i b F M N a o) (hb : b = 1) : kk_ (N 6 13) (N 6 14) ≤ @bb_ i (M 1 19) := by
  rcases h.2.2.2.2.2.2.2.2.2.2.1.2.2.2.2 with z | z
  · have := h.2.2.2.2.2.2.2.1; omega
  · exact z
theorem LBG_p [ig : Inhabited gh_] (hgh : GHP) {b F : Int} {M N : mm_} : LBG b F M N := ⟨fun _ => .inl hgh.1, fun _ k _ _ => .inl (by rw [hgh.2.2 k, hgh.2.2 (k + 1)]; exact Int.le_refl _)⟩
theorem HDG_p [ig : Inhabited gh_] (hgh : GHP) {b F T : Int} {M N : mm_} : HDG b F M N T := ⟨hgh.1, fun _ => .inl hgh.2.1⟩
theorem ER_F0 [ig : Inhabited gh_] {b F : Int} {M N : mm_} {a o : Int} (h : ER b F M N a o) : F ≠ 0 := by
  have n := h.2.2.2.2.2.2.2.2.2.2.1
  obtain ⟨n1, _, n3, _⟩ := n
  unfold vk_ at n1
  have : 1 ≤ kk_ (M 1 4) (M 1 5) := by unfold kk_; split <;> omega
  omega
end GHi
def PBD [ig : Inhabited gh_] (b F F' : Int) (M N M' N' : mm_) (a' : Int) : Prop := ∃ (Mh Nh : mm_) (ah c Fh : Int), HDR b Fh Mh Nh ah ∧ PHF b F Fh (up_ M 122 (M 1 18) c) N Mh Nh ∧ (b = 1 → c = M 122 (M 1 18)) ∧ (0 ≤ c ∧ c ≤ 3) ∧ (b = 0 → Nh 170 (M 1 18) = c ∧ c ≤ Mh 124 (M 1 18)) ∧ STA b F' M' N' a' 0 ∧ PRS b (sBX Mh) (sBQ Mh Nh) M' N' ∧ STF b Fh F' (sBX Mh) (sBQ Mh Nh) M' N' ∧ (b = 1 → N' 6 13 = 0 → ATP M' N' (Mh 1 18) (Nh 6 75) (Mh 5 3))
def pdS (κ ν : Int → Int) (dm : Int → Bool) (pm : Int) (lm : Int → Int → Bool) (sm : Int → Bool) (s : sj_) : Option sj_ := (hdP κ ν dm pm s.1).bind fun a1 => pbS κ ν lm sm (a1, s.2)
section PDd
variable {dq : Nat} {b F Fh F' : Int} {x2 x3 x4 x5 c y1 y2 y3 : Int} {Kv G : mm_ → Prop} {Qt Qtq : qt_} {V V' : vv_} {M N Mx' M' N' Mh Nh : mm_} {a a' : Int}
theorem sB_18 [ig : Inhabited gh_] (f : STF b Fh F' (sBX Mh) (sBQ Mh Nh) M' N') : M' 1 18 = Mh 1 18 := (f.1.2.1 18 (by decide)).trans (sBX_1 (by decide))
theorem sB_r [ig : Inhabited gh_] (f : STF b Fh F' (sBX Mh) (sBQ Mh Nh) M' N') {r : Nat} (h : r ∉ xbL) (h7 : r ≠ 127) : M' r = Mh r := (XSb_r f.1 h).trans (sBX_r h7 (fun e => h (by rw [e]; decide)))
theorem sB_q [ig : Inhabited gh_] (f : STF b Fh F' (sBX Mh) (sBQ Mh Nh) M' N') {r : Nat} (h : r ∉ qbL) (h7 : r ≠ 176) : N' r = Nh r := (QSb_r f.2.1 h).trans (sBQ_r h7 (fun e => h (by rw [e]; decide)))
theorem sB_DCL [ig : Inhabited gh_] (f : STF b Fh F' (sBX Mh) (sBQ Mh Nh) M' N') {T u : Int} : DCL M' T u ↔ DCL Mh T u := DCL_c (sB_r f (by decide) (by decide)) (sB_r f (by decide) (by decide)) (sB_r f (by decide) (by decide)) (sB_r f (by decide) (by decide))
theorem sB_LKP [ig : Inhabited gh_] (f : STF b Fh F' (sBX Mh) (sBQ Mh Nh) M' N') : LKP b Mh M' := LKP_tr (LKP_X (sBX_r (by decide) (by decide)) (sBX_r (by decide) (by decide)) (sBX_1 (by decide)) (sBX_1 (by decide))).1 f.2.2.1
theorem sB_X [ig : Inhabited gh_] (f : STF b Fh F' (sBX Mh) (sBQ Mh Nh) M' N') : XPb Mh M' := XPb_tr (fun r hr => sBX_r (fun e => hr (by rw [e]; decide)) (fun e => hr (by rw [e]; decide))) (XSb_P f.1)
theorem sB_Q [ig : Inhabited gh_] (f : STF b Fh F' (sBX Mh) (sBQ Mh Nh) M' N') : QPb Nh N' := QPb_tr ⟨fun r hr => sBQ_r (fun e => hr (by unfold QPRr; omega)) (fun e => hr (by unfold QPRr; omega)), fun i hi => sBQ_6 (nm_i hi (by decide))⟩ (QSb_P f.2.1)
theorem XPb_122 [ig : Inhabited gh_] {T v : Int} : XPb M (up_ M 122 T v) := fun r hr => up_ne (fun e => hr (by rw [e]; decide))
theorem DUN_c [ig : Inhabited gh_] {T f : Int} {M1 N1 : mm_} (h : DUN M N T f) (hd : ∀ u, DCL M T u → DCL M1 T u) (h71 : M1 71 = M 71) (h151 : N1 151 = N 151) : DUN M1 N1 T f := by
  obtain ⟨u, v, ⟨a1, a2, a3⟩, a4, a5⟩ := h
  exact ⟨u, v, ⟨hd u a1, hd v a2, a3⟩, by rw [h151]; exact a4, by rw [h71]; exact a5⟩
theorem y_pbd [ig : Inhabited gh_] (hgh : GHP) (h19 : b = 1 → M 1 19 = 0) (hV : Cl_ wd0 (Tr_ wd0 pg0 130) V (rv_ Kv) Qt m_126) (hW : Wk_ V) (h : HDR b F M N a) (hc : b = 0 → M 124 (M 1 18) = 0 ∧ M 126 (M 1 18) = 0 ∧ N 170 (M 1 18) = 0) (hS : b = 1 → pdS (M 70) (M 73) (DMT M) (M 122 (M 1 18)) (LMT M) (SMT N) (a, lc_ b M) ≠ none)
    (hK : ∀ F' M' N' a', PBD b F F' M N M' N' a' → PBG b F F' M N M' N' → a + 5 ≤ a' → (∀ dm pm lm sm, DOK b dm M M' → pm = M' 122 (M 1 18) → LOK b lm M M' → SOK b sm N N' → pdS (M 70) (M 73) dm pm lm sm (a, lc_ b M) = some (a', lc_ b M')) → (∀ (G : mm_ → Prop) (Qtq : qt_), G N' → qPR dq (M 1 18) x2 x3 x4 x5 N G Qtq) → R461 Kv Qt M')
    (hQ : b = 0 → ∀ Mx', XPb M Mx' → (∀ (G : mm_ → Prop) (Qtq : qt_), (∀ M', SQp Mx' N M' → G M') → qPR dq (M 1 18) x2 x3 x4 x5 N G Qtq) → Qt 8 Mx') :
    V 281 [rr 1, ii y1, ii y2, none, none, none, none] [] M := by
  have hx : 0 ≤ M 1 18 ∧ M 1 18 < 6 := h.1.1.1.2.1.2.2.imp id And.left
  have hE := TS_E h.1.1
  have kN : b = 1 → kk_ (N 6 13) (N 6 14) ≤ bb_ 0 := fun hb => by have := ER_kk hE hb; rw [hgh.2.2] at this; exact this
  have h2 : @HDR (ih_ gg_ bb_ 0 F) b F M N a := HDR_i ig _ h rfl (fun hb => ER_kk hE hb) ⟨fun _ => .inl rfl, fun _ k _ _ => .inl (by show bb_ k ≤ bb_ (k + 1); rw [hgh.2.2 k, hgh.2.2 (k + 1)]; exact Int.le_refl _)⟩ ⟨rfl, fun _ => .inr (.inl rfl)⟩
  refine y_281 (ig := ih_ gg_ bb_ 0 F) (dq := dq) (x1 := M 1 18) (x2 := x2) (x3 := x3) (x4 := x4) (x5 := x5) hV hW hx h2 hc (fun hb => bind_n (hS hb)) (fun Fh Mh Nh ah c Hh ha ph cb cc n170 h34 sy hq => ?_) hQ
  have e18 : Mh 1 18 = M 1 18 := (ph.1.2.1 18 (by decide)).trans (by rw [up_ne (by decide)])
  have er : ∀ r : Nat, r ≠ 1 → r ≠ 122 → r ∉ vxL → Mh r = M r := fun r h1 h2 h3 => (ph.1.1 r h1 h3).trans (up_ne h2)
  have m122 : Mh 122 (M 1 18) = c := by rw [ph.1.1 122 (by decide) (by decide), up_at]
  have m70 := er 70 (by decide) (by decide) (by decide)
  have m71 := er 71 (by decide) (by decide) (by decide)
  have m73 := er 73 (by decide) (by decide) (by decide)
  have m62 := er 62 (by decide) (by decide) (by decide)
  have q151 : Nh 151 = N 151 := ph.1.2.2.1 151 (by decide) (by decide)
  have q180 : Nh 180 = N 180 := ph.1.2.2.1 180 (by decide) (by decide)
  have e19 : Mh 1 19 = M 1 19 := (ph.1.2.1 19 (by decide)).trans (by rw [up_ne (by decide)])
  have m3 : up_ M 122 (M 1 18) c 1 3 = a := by rw [up_ne (by decide)]; exact hE.2.1
  have h3 : Mh 1 3 = ah := Hh.1.1.1.2.2.1.2.1
  have d122 : ∀ u, DCL (up_ M 122 (M 1 18) c) (M 1 18) u ↔ DCL M (M 1 18) u := fun u => DCL_c (up_ne (by decide)) (up_ne (by decide)) (up_ne (by decide)) (up_ne (by decide))
  have p18 : up_ M 122 (M 1 18) c 1 18 = M 1 18 := by rw [up_ne (by decide)]
  have p71 : up_ M 122 (M 1 18) c 71 = M 71 := up_ne (by decide)
  have phd := ph.2.2.2.2.2.2
  have lk := LKP_X (b := b) (M1 := Mh) (Mx := M) (er 62 (by decide) (by decide) (by decide)) (er 128 (by decide) (by decide) (by decide)) e18 e19
  have smh : SMT Nh = SMT N := by
    unfold SMT stt
    rw [ph.1.2.2.1 151 (by decide) (by decide), ph.1.2.2.2 61 (by decide), ph.1.2.2.1 174 (by decide) (by decide), ph.1.2.2.1 179 (by decide) (by decide)]
  have lmt : LMT Mh = LMT M := by
    unfold LMT
    rw [e18, er 62 (by decide) (by decide) (by decide), er 128 (by decide) (by decide) (by decide)]
  have syb : b = 1 → hdP (M 70) (M 73) (DMT M) (M 122 (M 1 18)) a = some ah := fun hb => by rw [← cb hb]; exact sy _ ⟨fun hb0 => by omega, fun _ => rfl⟩
  have Hg : @HDR ig b Fh Mh Nh ah := HDR_i _ ig Hh rfl (fun hb => by have := kN hb; have := (phd.2.2 hb).1; rw [hgh.2.2]; (clear hgh h19 hV hW h hc hS hK hQ hx hE kN h2 Hh ha ph cb cc n170 h34 sy hq e18 er m122 m70 m71 m73 m62 q151 q180 e19 m3 h3 d122 p18 p71 phd lk smh lmt syb hb; lia)) (LBG_p hgh) (HDG_p hgh)
  have Fh0 : Fh ≠ 0 := ER_F0 (TS_E Hg.1.1)
  generalize eD : (fun k : Int => ∃ i : Int, (0 ≤ i ∧ i < k) ∧ Nh 180 (10 * Mh 1 18 + i) = Nh 180 (10 * Mh 1 18 + k)) = D
  generalize eK : (fun k : Int => 8 * Mh 71 (Mh 62 (10 * Mh 1 18 + k)) + 3) = κ
  have S3 : @STA (ih_ gg_ (fun k => bL D κ (kk_ (Nh 6 13) (Nh 6 14)) k.toNat) Fh 0) b Fh Mh Nh ah 0 := STA_i ig _ Hg.1 rfl (fun hb => by
      show _ ≤ bL D κ (kk_ (Nh 6 13) (Nh 6 14)) (Mh 1 19).toNat
      rw [e19, h19 hb]; exact Int.le_refl _) ⟨fun _ => .inr (.inl rfl), fun _ k k0 _ => by
      show bL D κ (kk_ (Nh 6 13) (Nh 6 14)) k.toNat ≤ bL D κ (kk_ (Nh 6 13) (Nh 6 14)) (k + 1).toNat ∨ _ ∧ _ ≤ bL D κ (kk_ (Nh 6 13) (Nh 6 14)) (k + 1).toNat
      have s := (bL_s (D := D) (κ := κ) (c := kk_ (Nh 6 13) (Nh 6 14)) k.toNat).2.2
      rw [show (k + 1).toNat = k.toNat + 1 by (clear hgh h19 hV hW h hc hS hK hQ hx hE kN h2 Hh ha ph cb cc n170 h34 sy hq e18 er m122 m70 m71 m73 m62 q151 q180 e19 m3 h3 d122 p18 p71 phd lk smh lmt syb Hg Fh0 eD eK s; lia)]
      rw [show ((k.toNat : Nat) : Int) = k by (clear hgh h19 hV hW h hc hS hK hQ hx hE kN h2 Hh ha ph cb cc n170 h34 sy hq e18 er m122 m70 m71 m73 m62 q151 q180 e19 m3 h3 d122 p18 p71 phd lk smh lmt syb Hg Fh0 eD eK s; lia)] at s
      rcases s with s | ⟨s1, s2⟩
      · exact .inl s
      · exact .inr ⟨by rw [← eD] at s1; exact s1, by rw [← eK] at s2 ⊢; exact s2⟩⟩
  refine y_str (ig := ih_ gg_ (fun k => bL D κ (kk_ (Nh 6 13) (Nh 6 14)) k.toNat) Fh 0) (dq := dq) (x2 := x2) (x3 := x3) (x4 := x4) (x5 := x5) (c := c) hV hW S3 (fun hb => ?_) (fun F' M' N' a' S' ha' P' f' at' sy' hq' => ?_) (fun hb Mx' hx' hq' => ?_)
  · have := hS hb
    unfold pdS at this
    rw [syb hb, Option.bind_some] at this
    rw [m70, m73, lmt, smh, lk.2]; exact this
  · have k122 : M' 122 (M 1 18) = c := by rw [sB_r f' (by decide) (by decide)]; exact m122
    have kb : b = 1 → kk_ (N' 6 13) (N' 6 14) ≤ bL D κ (kk_ (Nh 6 13) (Nh 6 14)) (M' 1 19).toNat := fun hb => ER_ki _ S'.1.1.2.2.1 hb
    have kl : b = 1 → kk_ (N' 6 13) (N' 6 14) ≤ kk_ (Nh 6 13) (Nh 6 14) := fun hb => Int.le_trans (kb hb) (bL_le _)
    have Sg : @STA ig b F' M' N' a' 0 := STA_i _ ig S' rfl (fun hb => by have := kN hb; have := (phd.2.2 hb).1; have := kl hb; rw [hgh.2.2]; (clear hgh h19 hV hW h hc hS hK hQ hx hE kN h2 Hh ha ph cb cc n170 h34 sy hq e18 er m122 m70 m71 m73 m62 q151 q180 e19 m3 h3 d122 p18 p71 phd lk smh lmt syb Hg Fh0 eD eK S3 S' ha' P' f' at' sy' hq' k122 kb kl hb; omega)) (LBG_p hgh)
    have w18 : M' 1 18 = M 1 18 := (sB_18 f').trans e18
    have w71 : M' 71 = M 71 := (sB_r f' (by decide) (by decide)).trans m71
    have w151 : N' 151 = N 151 := (sB_q f' (by decide) (by decide)).trans q151
    have d1' : ∀ dm, DOK b dm M M' → DOK b dm M Mh := fun dm hd => ⟨fun hb t ht => hd.1 hb t (by rw [sB_18 f']; exact (sB_DCL f').2 ht), hd.2⟩
    have G : PBG b F F' M N M' N' := by
      refine ⟨fun hb => ⟨?_, ah, fun dm pm hd hpm => ?_, fun u hu => ?_⟩, fun hb => ⟨?_, fun ah' hah hlo f hf => ?_, fun f hf => ?_⟩⟩
      · have lg := S'.1.2.2.1.2.2.1 hb
        have hg := Hh.2.2.2.2 hb
        rcases lg with z | z | ⟨k, i, z1, z2, z3⟩
        · exact absurd z Fh0
        · have z : F' = Fh := z
          rcases hg with y | y | y
          · exact absurd y (ER_F0 hE)
          · exact .inl (z.trans y)
          · right; left
            rw [z, ← e18]
            exact DUN_c (M := Mh) (N := Nh) (by obtain ⟨u, v, y⟩ := y; exact ⟨u, v, y⟩) (fun u hu => (sB_DCL f').2 hu) (w71.trans m71.symm) (w151.trans q151.symm)
        · right; right
          rw [w18] at z1 z2 z3
          exact ⟨k, i, z1, z2, z3⟩
      · rw [hpm, k122, hE.2.1]
        exact sy dm (d1' dm hd)
      · have hu' : DCL Mh (M 1 18) u := (sB_DCL f').1 hu
        refine ⟨?_, Hh.2.2.1 hb u (by rw [e18]; exact hu')⟩
        have := phd.2.1 hb u (by rw [p18]; exact hu')
        rw [m3, p18, d122] at this
        rcases this with z | z | z
        · have c0 := hc hb
          rcases z with ⟨k, hk, _⟩ | ⟨k, hk, _⟩ <;> (clear hgh h19 hV hW h hc hS hK hQ hx hE kN h2 Hh ha ph cb cc n170 h34 sy hq e18 er m122 m70 m71 m73 m62 q151 q180 e19 m3 h3 d122 p18 p71 phd lk smh lmt syb Hg Fh0 eD eK S3 S' ha' P' f' at' sy' hq' k122 kb kl Sg w18 w71 w151 d1' hb hu hu'; omega)
        · rw [hE.2.1]; exact z
        · exact z.elim
      · exact Int.le_trans (kl hb) (phd.2.2 hb).1
      · rw [hE.2.1, syb hb] at hah
        injection hah with hah
        obtain ⟨u, v, ⟨a1, a2, a3⟩, a4, a5⟩ := hf
        have := (phd.2.2 hb).2 u v (by rw [p18, d122]; exact a1) (by rw [p18, d122]; exact a2) a3 a4 (by rw [m3, ← hE.2.1]; exact (hlo v a2).1) (by rw [h3, hah]; exact (hlo v a2).2) (fun e => e)
        rw [p71] at this
        rw [a5]
        exact Int.le_trans (kl hb) this
      · obtain ⟨k, i, ⟨z0, z1, z1'⟩, z2, z3⟩ := hf
        have := bL_d (D := D) (κ := κ) (c := kk_ (Nh 6 13) (Nh 6 14)) (M' 1 19).toNat k (by rw [← eD]; exact ⟨i, ⟨z0, z1⟩, by rw [q180, e18]; exact z2⟩) (by (clear hgh h19 hV hW h hc hS hK hQ hx hE kN h2 Hh ha ph cb cc n170 h34 sy hq e18 er m122 m70 m71 m73 m62 q151 q180 e19 m3 h3 d122 p18 p71 phd lk smh lmt syb Hg Fh0 eD eK S3 S' ha' P' f' at' sy' hq' k122 kb kl Sg w18 w71 w151 d1' hb z1' z2 z3; lia)) (by (clear hgh h19 hV hW h hc hS hK hQ hx hE kN h2 Hh ha ph cb cc n170 h34 sy hq e18 er m122 m70 m71 m73 m62 q151 q180 e19 m3 h3 d122 p18 p71 phd lk smh lmt syb Hg Fh0 eD eK S3 S' ha' P' f' at' sy' hq' k122 kb kl Sg w18 w71 w151 d1' hb z0 z1 z2 z3; omega))
        rw [z3]
        refine Int.le_trans (kb hb) ?_
        rw [← eK] at this
        rw [← m71, ← m62, ← e18]
        rw [← eK]; exact this
    refine hK F' M' N' a' ⟨Mh, Nh, ah, c, Fh, Hg, ph, cb, cc, n170, Sg, P', f', at'⟩ G (by (clear hgh h19 hV hW h hc hS hK hQ hx hE kN h2 Hh ph cb cc n170 h34 sy hq e18 er m122 m70 m71 m73 m62 q151 q180 e19 d122 p18 p71 phd lk smh lmt syb Hg Fh0 eD eK S3 S' P' f' at' sy' hq' k122 kb kl Sg w18 w71 w151 d1' G; lia)) (fun dm pm lm sm hd hpm hl hs => ?_) (fun G Qtq hg => hq G Qtq (by rw [← e18]; exact hq' G Qtq hg))
    have l1 := LOK_s lk.1 (sB_LKP f') hl
    have s1 : SOK b sm Nh N' := ⟨hs.1, fun hb => by rw [smh]; exact hs.2 hb⟩
    have e1 := sy dm (d1' dm hd)
    have e2 := sy' lm sm l1.2 s1
    rw [m70, m73, lk.2] at e2
    unfold pdS
    rw [hpm, k122, e1, Option.bind_some]; exact e2
  · exact hQ hb Mx' (XPb_tr (XPb_tr XPb_122 (PHF_X ph)) hx') (fun G Qtq hg => hq G Qtq (by rw [← e18]; exact hq' G Qtq fun M9 p => hg _ (SQp_tr (PHF_Q ph) p)))
end PDd
end T249_pd
section T250_gl
/-! global names: isTold (X 111) | global (Q 235) -/
def GLM (M : mm_) (u : Int) : Prop := (∃ k, (0 ≤ k ∧ k < M 5 0) ∧ M 56 k = u) ∨ (∃ k, (0 ≤ k ∧ k < M 5 1) ∧ M 57 k = u) ∨ (∃ k, (0 ≤ k ∧ k < M 5 2) ∧ M 58 k = u)
def UNT (N : mm_) (v : Int) : Prop := sgl N v = -1 ∧ rtl N v = -1 ∧ tpl N v = -1
def GLT (F : Int) (M N : mm_) : Prop := (0 ≤ N 6 58 ∧ N 6 58 = M 5 0 + M 5 1 + M 5 2) ∧ (∀ i, 0 ≤ i → i < N 6 58 → ∃ u, (nm9_ M u ∧ GLM M u) ∧ N 190 i = N 151 u ∧ N 191 i = M 71 u) ∧ (∀ u v, GLM M u → GLM M v → N 151 u = N 151 v → u < v → F ≤ 8 * M 71 v + 3) ∧ (∀ k, 0 ≤ k → k < M 5 0 → N 155 k = M 71 (M 56 k)) ∧ (∀ u, GLM M u → ∃ i, (0 ≤ i ∧ i < N 6 58) ∧ N 190 i = N 151 u ∧ N 191 i = M 71 u)
def GWM (N : mm_) (t : Int) : Prop := ∃ i, (0 ≤ i ∧ i < N 6 58) ∧ N 190 i = N 151 t ∧ N 191 i < N 150 t
def GWI (N : mm_) (t : Int) (N' : mm_) : Prop := N' = N ∨ (N' = nt_ N 3 (N 150 t) ∧ GWM N t)
/-- a global name told ahead of t -/
def TDW (M N : mm_) (t : Int) : Prop := ∃ u, GLM M u ∧ u < t ∧ N 151 u = N 151 t
/-- what a global name leaves: in pass 1 a note or none, in pass 2 a note if it was told -/
def GNO (b F F1 : Int) (M N N1 : mm_) (t : Int) : Prop := (b = 0 → F1 = F ∨ ((∃ u, GLM M u ∧ N 151 u = N 151 t) ∧ F1 = 8 * M 71 t + 3)) ∧ (b = 1 → kk_ (N1 6 13) (N1 6 14) ≤ kk_ (N 6 13) (N 6 14) ∧ (TDW M N t → kk_ (N1 6 13) (N1 6 14) ≤ 8 * M 71 t + 3))
def gq_ (N : mm_) (t : Int) : mm_ := up_ (up_ (up_ N 190 (N 6 58) (N 151 t)) 191 (N 6 58) (N 150 t)) 6 58 (N 6 58 + 1)
/-- X's note, if the name is told -/
def gd1_ (M N : mm_) (t : Int) : mm_ := if sgl N (N 151 t) = -1 ∧ rtl N (N 151 t) = -1 ∧ tpl N (N 151 t) = -1 then M else nt1_ M 3 t
def Fg_ (F : Int) (M N : mm_) (t : Int) : Int := if sgl N (N 151 t) = -1 ∧ rtl N (N 151 t) = -1 ∧ tpl N (N 151 t) = -1 then F else min F (8 * M 71 t + 3)
section GLo
variable {d : Nat} {b F : Int} {M N N' M1 N1 : mm_} {t a : Int} {K : Int → mm_ → Prop} {Kv : mm_ → Prop} {Qt : qt_} {V : vv_}
theorem x_112s [Inhabited gh_] (hT : Tks M N) (h2 : M 1 2 = 5) (h9 : sgl9 M N) (ht : nm9_ M t) (h : K (sgl N (N 151 t)) M) : Tr_ wd0 pg0 (d + 3) 112 [.inr (.inr 1), .inl t] M (ri_ K) Qt := by
  obtain ⟨u1, u2⟩ := h9
  obtain ⟨m, hm⟩ := Int.eq_ofNat_of_zero_le u1.1
  have hm2 : (N 6 17).toNat = m := by rw [u1.2.2, hm]; rfl
  refine x_112 (η := N 151) (m := m) h2 hm (by have := u1.2.1; omega) (tk9_of hT ht.1) (fun k h1 h2 => ?_) ?_
  · have := u2 k h1 (by rw [hm]; exact h2)
    exact ⟨tk9_of hT this.1.1, lk_of hT this.1 ht⟩
  · unfold sgl at h
    rw [hm2] at h
    rw [fi_cg (g' := fun i => N 152 (i)) (v' := N 151 t) m 0 (fun i h1 h2 => ?_)]
    · exact h
    · rw [(u2 i h1 (by rw [hm]; omega)).2]
theorem x_114s [Inhabited gh_] (hT : Tks M N) (h2 : M 1 2 = 5) (h9 : rtl9 M N) (ht : nm9_ M t) (h : K (rtl N (N 151 t)) M) : Tr_ wd0 pg0 (d + 3) 114 [.inr (.inr 1), .inl t] M (ri_ K) Qt := by
  obtain ⟨u1, u2⟩ := h9
  obtain ⟨m, hm⟩ := Int.eq_ofNat_of_zero_le u1.1
  have hm2 : (N 6 18).toNat = m := by rw [u1.2.2, hm]; rfl
  refine x_114 (η := N 151) (m := m) h2 hm (by have := u1.2.1; omega) (tk9_of hT ht.1) (fun k h1 h2 => ?_) ?_
  · have := u2 k h1 (by rw [hm]; exact h2)
    exact ⟨tk9_of hT this.1.1, lk_of hT this.1 ht⟩
  · unfold rtl at h
    rw [hm2] at h
    rw [fi_cg (g' := fun i => N 153 (i)) (v' := N 151 t) m 0 (fun i h1 h2 => ?_)]
    · exact h
    · rw [(u2 i h1 (by rw [hm]; omega)).2]
theorem x_115s [Inhabited gh_] (hT : Tks M N) (h2 : M 1 2 = 5) (h9 : tpl9 M N) (ht : nm9_ M t) (h : K (tpl N (N 151 t)) M) : Tr_ wd0 pg0 (d + 3) 115 [.inr (.inr 1), .inl t] M (ri_ K) Qt := by
  obtain ⟨u1, u2⟩ := h9
  obtain ⟨m, hm⟩ := Int.eq_ofNat_of_zero_le u1.1
  have hm2 : (N 6 19).toNat = m := by rw [u1.2.2, hm]; rfl
  refine x_115 (η := N 151) (m := m) h2 hm (by have := u1.2.1; omega) (tk9_of hT ht.1) (fun k h1 h2 => ?_) ?_
  · have := u2 k h1 (by rw [hm]; exact h2)
    exact ⟨tk9_of hT this.1.1, lk_of hT this.1 ht⟩
  · unfold tpl at h
    rw [hm2] at h
    rw [fi_cg (g' := fun i => N 154 (i)) (v' := N 151 t) m 0 (fun i h1 h2 => ?_)]
    · exact h
    · rw [(u2 i h1 (by rw [hm]; omega)).2]
theorem x_111s [Inhabited gh_] (hT : Tks M N) (h2 : M 1 2 = 5) (hs : sgl9 M N) (hr : rtl9 M N) (hp : tpl9 M N) (ht : nm9_ M t) (h0 : (sgl N (N 151 t) = -1 ∧ rtl N (N 151 t) = -1 ∧ tpl N (N 151 t) = -1) → K 0 M) (h1 : ¬ (sgl N (N 151 t) = -1 ∧ rtl N (N 151 t) = -1 ∧ tpl N (N 151 t) = -1) → K 1 M) : Tr_ wd0 pg0 (d + 4) 111 [.inr (.inr 1), .inl t] M (ri_ K) Qt := by
  refine t_111 fun V hV hW => b_111_0 (Tr_mono _) hV hW _ _ (x_112s hT h2 hs ht ?_)
  by_cases c1 : sgl N (N 151 t) = -1
  · rw [if_pos c1]
    refine x_114s hT h2 hr ht ?_
    by_cases c2 : rtl N (N 151 t) = -1
    · rw [if_pos c2]
      refine x_115s hT h2 hp ht ?_
      by_cases c3 : tpl N (N 151 t) = -1
      · rw [if_pos c3]; exact ⟨.inl rfl, ri_i (h0 ⟨c1, c2, c3⟩)⟩
      · rw [if_neg c3]; exact ⟨.inr rfl, ri_i (h1 fun e => c3 e.2.2)⟩
    · rw [if_neg c2]; exact ⟨.inr rfl, ri_i (h1 fun e => c2 e.2.1)⟩
  · rw [if_neg c1]; exact ⟨.inr rfl, ri_i (h1 fun e => c1 e.1)⟩
theorem gd1_r [Inhabited gh_] {r : Nat} (h : r ≠ 1) : gd1_ M N t r = M r := by
  unfold gd1_; split
  · rfl
  · exact nt1_r h
theorem gd1_1 [Inhabited gh_] {i : Int} (h4 : i ≠ 4) (h5 : i ≠ 5) (h7 : i ≠ 7) : gd1_ M N t 1 i = M 1 i := by
  unfold gd1_; split
  · rfl
  · exact nt1_1 h4 h5 h7
theorem gd1_7 [Inhabited gh_] : M 1 7 ≤ gd1_ M N t 1 7 ∧ gd1_ M N t 1 7 ≤ M 1 7 + 1 := by
  unfold gd1_; split
  · lia
  · rw [nt1_7]; omega
theorem Fg_le [Inhabited gh_] : Fg_ F M N t ≤ F := by unfold Fg_; split <;> omega
theorem ER_gd [Inhabited gh_] {o : Int} (hE : ER b F M N a o) (hb : b = 0) (hp : 0 ≤ M 71 t ∧ M 71 t ≤ 5000) (hf : M 1 7 + 1 + 8 * (1201 - a) ≤ 1000001000 - (gg_ : Int)) : ER b (Fg_ F M N t) (gd1_ M N t) N a o := by
  unfold Fg_ gd1_; split
  · exact hE
  · exact ER_n1 hE hb (by decide) hp hf
/-- who tells a global name already -/
theorem GLM_told [Inhabited gh_] (hs : sgl9 M N) (hr : rtl9 M N) (hp : tpl9 M N) {u : Int} (hu : GLM M u) (he : N 151 u = N 151 t) : ¬ (sgl N (N 151 t) = -1 ∧ rtl N (N 151 t) = -1 ∧ tpl N (N 151 t) = -1) := by
  rintro ⟨e1, e2, e3⟩
  rcases hu with ⟨k, hk, e⟩ | ⟨k, hk, e⟩ | ⟨k, hk, e⟩
  · unfold sgl at e1
    refine fi_no _ _ _ _ e1 (Int.le_refl _) k hk.1 (by rw [hs.1.2.2]; (clear hs hr hp he e1 e2 e3 e; omega)) ?_
    show N 152 k = N 151 t
    rw [(hs.2 k hk.1 hk.2).2, e, he]
  · unfold rtl at e2
    refine fi_no _ _ _ _ e2 (Int.le_refl _) k hk.1 (by rw [hr.1.2.2]; omega) ?_
    show N 153 k = N 151 t
    rw [(hr.2 k hk.1 hk.2).2, e, he]
  · unfold tpl at e3
    refine fi_no _ _ _ _ e3 (Int.le_refl _) k hk.1 (by rw [hp.1.2.2]; omega) ?_
    show N 154 k = N 151 t
    rw [(hp.2 k hk.1 hk.2).2, e, he]
theorem q_235n [Inhabited gh_] (hg : go_ N) (h16 : N 6 16 = 0) (h58 : 0 ≤ N 6 58 ∧ N 6 58 < 36) (ht : 0 ≤ t ∧ t < 1202) (h : Kv (gq_ N t)) : Tr_ wd0 pg0 (d + 2) 235 [.inr (.inr 6), .inl t] N (rv_ Kv) Qt := by
  refine t_235 fun V hV hW => b_235_0 (Tr_mono _) hV hW _ _ ?_
  intro _
  rw [if_pos h16]
  refine q_227g hg ?_
  rw [if_pos rfl, w32_id (x := N 6 58 + 1) (by omega) (by omega)]
  exact ⟨ht, h58, ht, h58, rv_i h⟩
theorem q_235s [Inhabited gh_] (hs : sp_ N) (h : Kv N) : Tr_ wd0 pg0 (d + 2) 235 [.inr (.inr 6), .inl t] N (rv_ Kv) Qt := by
  refine t_235 fun V hV hW => b_235_0 (Tr_mono _) hV hW _ _ ?_
  intro _
  rw [if_pos hs.2]
  refine q_227s hs ?_
  rw [if_neg (by decide)]; exact rv_i h
theorem GWI_r [Inhabited gh_] (h : GWI N t N') {r : Nat} (hr : r ≠ 6) : N' r = N r := by
  rcases h with h | ⟨h, _⟩
  · rw [h]
  · rw [h, ntQ_r hr]
theorem GWI_6 [Inhabited gh_] (h : GWI N t N') {i : Int} (h1 : i ≠ 13) (h2 : i ≠ 14) : N' 6 i = N 6 i := by
  rcases h with h | ⟨h, _⟩
  · rw [h]
  · rw [h, ntQ_6 h1 h2]
def GWJ (N : mm_) (t k : Int) (N' : mm_) : Prop := (N' = N ∧ (∀ i, 0 ≤ i → i < k → ¬ (N 190 i = N 151 t ∧ N 191 i < N 150 t))) ∨ (N' = nt_ N 3 (N 150 t) ∧ GWM N t)
theorem l_235 [Inhabited gh_] (hV : Cl_ wd0 (Tr_ wd0 pg0 (d + 1)) V (rv_ Kv) Qt m_235) (hW : Wk_ V) (h58 : 0 ≤ N 6 58 ∧ N 6 58 ≤ 36) (ht : 0 ≤ t ∧ t < 1202) (h1 : GWM N t → Kv (nt_ N 3 (N 150 t))) (h0 : ¬ GWM N t → Kv N) :
    ∀ (n : Nat) (k : Int) (N' : mm_), N 6 58 - k ≤ (n : Int) → 0 ≤ k → GWJ N t k N' → V 9 [rr 6, ii t, ii k] [] N'
  | n, k, N', hn, hk0, hj => by
    have h : GWI N t N' := by
      rcases hj with h | h
      · exact .inl h.1
      · exact .inr h
    have e58 : N' 6 58 = N 6 58 := GWI_6 h (by decide) (by decide)
    have er : ∀ r : Nat, r ≠ 6 → N' r = N r := fun r hr => GWI_r h hr
    refine b_235_9 (Tr_mono _) hV hW _ _ _ ?_
    rw [e58, er 190 (by decide), er 151 (by decide), er 191 (by decide), er 150 (by decide)]
    by_cases c : k < N 6 58
    · rw [if_pos c, w32_id (x := k + 1) (by (clear hV hW h58 ht h1 h0 hn hj h e58 er c; omega)) (by omega)]
      have rc1 : ∀ N1, GWJ N t (k + 1) N1 → V 9 [rr 6, ii t, ii (k + 1)] [] N1 := fun N1 g1 => by
        cases n with
        | zero => omega
        | succ m => exact l_235 hV hW h58 ht h1 h0 m (k + 1) N1 (by (clear hV hW h58 ht h1 h0 hk0 hj h er c g1; omega)) (by omega) g1
      have nx1 : ¬ (N 190 k = N 151 t ∧ N 191 k < N 150 t) → GWJ N t (k + 1) N' := fun hm => by
        rcases hj with ⟨e, g1⟩ | g
        · refine .inl ⟨e, fun i i0 i1 => ?_⟩
          by_cases ci : i = k
          · rw [ci]; exact hm
          · exact g1 i i0 (by (clear hV hW h58 ht h1 h0 hn hk0 h e58 er c rc1 hm e g1 i0; lia))
        · exact .inr g
      refine ⟨by omega, ht, ?_⟩
      by_cases c1 : N 190 k = N 151 t
      · rw [if_pos (by rw [if_neg (by omega), if_pos c1])]
        refine ⟨by omega, ht, ?_⟩
        by_cases c2 : N 191 k < N 150 t
        · rw [if_pos c2]
          have hm : GWM N t := ⟨k, ⟨hk0, c⟩, c1, c2⟩
          refine ⟨ht, q_236 (rc1 _ (.inr ⟨?_, hm⟩))⟩
          rcases h with h | ⟨h, _⟩
          · rw [h]
          · rw [h, nt_nt]
        · rw [if_neg c2]; exact rc1 _ (nx1 (fun e => c2 e.2))
      · rw [if_neg (by by_cases c2 : N 190 k < N 151 t
                       · rw [if_pos c2]; decide
                       · rw [if_neg c2, if_neg c1]; decide)]
        exact rc1 _ (nx1 (fun e => c1 e.1))
    · rw [if_neg c]
      rcases hj with ⟨e, g1⟩ | ⟨e, g⟩
      · rw [e]
        refine rv_i (h0 ?_)
        rintro ⟨i, hi, m1, m2⟩
        exact g1 i hi.1 (by omega) ⟨m1, m2⟩
      · rw [e]; exact rv_i (h1 g)
theorem q_235j [Inhabited gh_] (h16 : N 6 16 = 1) (h58 : 0 ≤ N 6 58 ∧ N 6 58 ≤ 36) (ht : 0 ≤ t ∧ t < 1202) : ∃ N', (GWI N t N' ∧ (GWM N t → N' = nt_ N 3 (N 150 t))) ∧ ∀ (d : Nat) (Kv : mm_ → Prop) (Qt : qt_), Kv N' → Tr_ wd0 pg0 (d + 2) 235 [.inr (.inr 6), .inl t] N (rv_ Kv) Qt := by
  rcases Classical.em (GWM N t) with m | m
  · exact ⟨nt_ N 3 (N 150 t), ⟨.inr ⟨rfl, m⟩, fun _ => rfl⟩, fun d Kv Qt hk => t_235 fun V hV hW => b_235_0 (Tr_mono _) hV hW _ _ (fun _ => by
      rw [if_neg (by omega)]
      exact l_235 hV hW h58 ht (fun _ => hk) (fun e => absurd m e) (N 6 58).toNat 0 N (by omega) (by omega) (.inl ⟨rfl, fun i a b => by omega⟩))⟩
  · exact ⟨N, ⟨.inl rfl, fun e => absurd e m⟩, fun d Kv Qt hk => t_235 fun V hV hW => b_235_0 (Tr_mono _) hV hW _ _ (fun _ => by
      rw [if_neg (by omega)]
      exact l_235 hV hW h58 ht (fun e => absurd e m) (fun _ => hk) (N 6 58).toNat 0 N (by omega) (by omega) (.inl ⟨rfl, fun i a b => by omega⟩))⟩
/-- Q's note TWICE lies behind X's -/
theorem GWM_F [Inhabited gh_] (hT : Tks M N) (h2 : GLT F M N) (ht : nm9_ M t) (hd : GLM M t) (hm : GWM N t) : F ≤ 8 * N 150 t + 3 := by
  have pt : N 150 t = M 71 t := (hT t ht.1).2.1.symm
  obtain ⟨i, hi, e1, e2⟩ := hm
  obtain ⟨u, ⟨nu, gu⟩, v1, v2⟩ := h2.2.1 i hi.1 hi.2
  rw [pt] at e2 ⊢
  rw [v1] at e1
  rw [v2] at e2
  refine h2.2.2.1 u t gu hd e1 ?_
  by_cases c : u < t
  · exact c
  · exfalso
    by_cases e : u = t
    · rw [e] at e2; omega
    · have := (hT u nu.1).2.2.2.2.1 t ht.1 (by (clear hT h2 ht hd pt hi e2 e1 nu gu v1 v2; omega)); (clear hT h2 ht hd pt hi e1 nu gu v1 c e; lia)
theorem fi_non [Inhabited gh_] {g : Int → Int} {v : Int} {n : Nat} (h : ∀ k, 0 ≤ k → k < (n : Int) → g k = v → False) : fi_ g v n 0 = -1 := by
  rcases fi_r g v n 0 with z | ⟨z1, z2, z3⟩
  · exact z
  · exact (h _ z1 (by omega) z3).elim
theorem told_GLM [Inhabited gh_] (hs : sgl9 M N) (hr : rtl9 M N) (hp : tpl9 M N) (h : ¬ (sgl N (N 151 t) = -1 ∧ rtl N (N 151 t) = -1 ∧ tpl N (N 151 t) = -1)) : ∃ u, GLM M u ∧ N 151 u = N 151 t := by
  apply Classical.byContradiction
  intro hn
  refine h ⟨?_, ?_, ?_⟩
  · unfold sgl
    refine fi_non ?_
    intro k k0 k1 e
    have k1' : k < M 5 0 := by have := hs.1; (clear hs hr hp h hn e; omega)
    exact hn ⟨M 56 k, .inl ⟨k, ⟨k0, k1'⟩, rfl⟩, by rw [← (hs.2 k k0 k1').2]; exact e⟩
  · unfold rtl
    refine fi_non ?_
    intro k k0 k1 e
    have k1' : k < M 5 1 := by have := hr.1; omega
    exact hn ⟨M 57 k, .inr (.inl ⟨k, ⟨k0, k1'⟩, rfl⟩), by rw [← (hr.2 k k0 k1').2]; exact e⟩
  · unfold tpl
    refine fi_non ?_
    intro k k0 k1 e
    have k1' : k < M 5 2 := by have := hp.1; omega
    exact hn ⟨M 58 k, .inr (.inr ⟨k, ⟨k0, k1'⟩, rfl⟩), by rw [← (hp.2 k k0 k1').2]; exact e⟩
theorem GLM_nm [Inhabited gh_] (hs : sgl9 M N) (hr : rtl9 M N) (hp : tpl9 M N) {u : Int} (h : GLM M u) : nm9_ M u := by
  rcases h with ⟨k, hk, e⟩ | ⟨k, hk, e⟩ | ⟨k, hk, e⟩
  · rw [← e]; exact (hs.2 k hk.1 hk.2).1
  · rw [← e]; exact (hr.2 k hk.1 hk.2).1
  · rw [← e]; exact (hp.2 k hk.1 hk.2).1
theorem TDW_G [Inhabited gh_] (hs : sgl9 M N) (hr : rtl9 M N) (hp : tpl9 M N) (hT : Tks M N) (hg : GLT F M N) (ht : nm9_ M t) (h : TDW M N t) : GWM N t := by
  obtain ⟨u, hu, hut, he⟩ := h
  obtain ⟨i, hi, e1, e2⟩ := hg.2.2.2.2 u hu
  have pt : N 150 t = M 71 t := (hT t ht.1).2.1.symm
  exact ⟨i, hi, e1.trans he, by rw [e2, pt]; exact (hT t ht.1).2.2.2.2.1 u (GLM_nm hs hr hp hu).1 hut⟩
/-- pass 1 -/
theorem GNO_0 [Inhabited gh_] (hs : sgl9 M N) (hr : rtl9 M N) (hp : tpl9 M N) : GNO 0 F (Fg_ F M N t) M N N' t := by
  refine ⟨fun _ => ?_, fun hb => by omega⟩
  unfold Fg_
  split
  · exact .inl rfl
  · rename_i h
    by_cases c : F ≤ 8 * M 71 t + 3
    · left; (clear hs hr hp h; lia)
    · right; exact ⟨told_GLM hs hr hp h, by omega⟩
/-- pass 2 -/
theorem GNO_1 [Inhabited gh_] (hs : sgl9 M N) (hr : rtl9 M N) (hp : tpl9 M N) (hT : Tks M N) (hg : GLT F M N) (ht : nm9_ M t) (h16 : N 6 16 = 1) (hv : vk_ (N 6 13) (N 6 14)) (hw : GWI N t N' ∧ (GWM N t → N' = nt_ N 3 (N 150 t))) {F1 F2 : Int} : GNO 1 F1 F2 M N N' t := by
  refine ⟨fun hb => by omega, fun _ => ?_⟩
  have pt : N 150 t = M 71 t := (hT t ht.1).2.1.symm
  have pp := (hT t ht.1).2.2.2.1
  have nl := nt_le (N := N) (k := 3) (p := N 150 t) hv (by decide) (by omega)
  refine ⟨?_, fun h => ?_⟩
  · rcases hw.1 with e | ⟨e, _⟩
    · rw [e]; exact Int.le_refl _
    · rw [e]; exact nl.1
  · rw [hw.2 (TDW_G hs hr hp hT hg ht h), ← pt]; exact nl.2 h16
theorem GNO_c [Inhabited gh_] {F1 : Int} {M2 N2 : mm_} (h : GNO b F F1 M N N1 t) (hx : ∀ r : Nat, r ∈ [5, 56, 57, 58, 71] → M2 r = M r) (h151 : N2 151 = N 151) (h13 : N2 6 13 = N 6 13) (h14 : N2 6 14 = N 6 14) : GNO b F F1 M2 N2 N1 t := by
  unfold GNO TDW GLM at h ⊢
  rw [hx 5 (by decide), hx 56 (by decide), hx 57 (by decide), hx 58 (by decide), hx 71 (by decide), h151, h13, h14]
  exact h
theorem GNO_le [Inhabited gh_] {F1 : Int} {N2 : mm_} (h : GNO b F F1 M N N1 t) (hl : b = 1 → kk_ (N2 6 13) (N2 6 14) ≤ kk_ (N1 6 13) (N1 6 14)) : GNO b F F1 M N N2 t := ⟨h.1, fun hb => ⟨Int.le_trans (hl hb) (h.2 hb).1, fun z => Int.le_trans (hl hb) ((h.2 hb).2 z)⟩⟩
end GLo
end T250_gl
section T251_sy
/-! the system: the relation between its parts -/
def VTt (Mx Mq : mm_) (T : Int) : Prop := (0 ≤ Mx 124 T ∧ Mx 124 T ≤ 8 ∧ Mq 171 T = Mx 124 T) ∧ (0 ≤ Mx 126 T ∧ Mx 126 T ≤ 3 ∧ Mq 173 T = Mx 126 T)
  ∧ (∀ k : Int, 0 ≤ k → k < Mx 124 T → nm9_ Mx (Mx 60 (8 * T + k)) ∧ Mq 177 (8 * T + k) = Mq 151 (Mx 60 (8 * T + k)) ∧ Mx 130 (8 * T + k) + 1 = Mq 182 (8 * T + k) ∧ Mx 131 (8 * T + k) = Mq 183 (8 * T + k) ∧ Mx 132 (8 * T + k) = Mq 184 (8 * T + k) ∧ 0 ≤ Mx 130 (8 * T + k) ∧ Mx 130 (8 * T + k) ≤ 2 ∧ 0 ≤ Mx 131 (8 * T + k))
  ∧ (∀ k : Int, 0 ≤ k → k < Mx 126 T → nm9_ Mx (Mx 61 (3 * T + k)) ∧ Mq 178 (3 * T + k) = Mq 151 (Mx 61 (3 * T + k)))
def STt (Mx Mq : mm_) (T : Int) : Prop := (0 ≤ Mx 123 T ∧ Mx 123 T ≤ 12 ∧ Mq 174 T = Mx 123 T) ∧ ∀ k : Int, 0 ≤ k → k < Mx 123 T → nm9_ Mx (Mx 59 (12 * T + k)) ∧ Mq 179 (12 * T + k) = Mq 151 (Mx 59 (12 * T + k))
def LBt (b F : Int) (Mx Mq : mm_) (a T : Int) : Prop := ((0 ≤ Mx 128 T ∧ Mx 128 T ≤ 10 ∧ Mq 175 T = Mx 128 T) ∧ ∀ k : Int, 0 ≤ k → k < Mx 128 T → nm9_ Mx (Mx 62 (10 * T + k)) ∧ Mq 180 (10 * T + k) = Mq 151 (Mx 62 (10 * T + k)))
  ∧ (∀ k : Int, 0 ≤ k → k < Mx 128 T → Mq 187 (10 * T + k) = Mx 71 (Mx 62 (10 * T + k)) ∧ (b = 0 → Mx 62 (10 * T + k) < a) ∧ ∀ i : Int, 0 ≤ i → i < k → Mx 62 (10 * T + i) < Mx 62 (10 * T + k) ∧ (Mq 180 (10 * T + i) = Mq 180 (10 * T + k) → F ≤ 8 * Mx 71 (Mx 62 (10 * T + k)) + 3))
def S186 (M N : mm_) (T : Int) : Prop := ∀ k, 0 ≤ k → k < M 123 T → N 186 (12 * T + k) = M 71 (M 59 (12 * T + k))
/-- the tables of a type -/
def TYP (b F : Int) (M N : mm_) (a T : Int) : Prop := VTt M N T ∧ TBL F M N T ∧ STt M N T ∧ S186 M N T ∧ LBt b F M N a T ∧ N 167 T = M 71 (M 58 T)
/-- how many at the start, how many at most -/
def CNT (M N : mm_) (T : Int) : Prop := (N 168 T = M 120 T ∧ N 169 T = M 121 T) ∧ (0 ≤ M 120 T ∧ M 120 T ≤ 200) ∧ (0 ≤ M 121 T ∧ M 121 T ≤ 200)
/-- the rows of a type stay -/
def ROW (M N M1 N1 : mm_) (T : Int) : Prop := (M1 58 T = M 58 T ∧ M1 120 T = M 120 T ∧ M1 121 T = M 121 T ∧ M1 123 T = M 123 T ∧ M1 124 T = M 124 T ∧ M1 125 T = M 125 T ∧ M1 126 T = M 126 T ∧ M1 128 T = M 128 T)
  ∧ (N1 167 T = N 167 T ∧ N1 168 T = N 168 T ∧ N1 169 T = N 169 T ∧ N1 171 T = N 171 T ∧ N1 172 T = N 172 T ∧ N1 173 T = N 173 T ∧ N1 174 T = N 174 T ∧ N1 175 T = N 175 T)
  ∧ (∀ k, 0 ≤ k → k < 8 → (M1 60 (8 * T + k) = M 60 (8 * T + k) ∧ M1 130 (8 * T + k) = M 130 (8 * T + k) ∧ M1 131 (8 * T + k) = M 131 (8 * T + k) ∧ M1 132 (8 * T + k) = M 132 (8 * T + k)) ∧ N1 177 (8 * T + k) = N 177 (8 * T + k) ∧ N1 181 (8 * T + k) = N 181 (8 * T + k) ∧ N1 182 (8 * T + k) = N 182 (8 * T + k) ∧ N1 183 (8 * T + k) = N 183 (8 * T + k) ∧ N1 184 (8 * T + k) = N 184 (8 * T + k))
  ∧ (∀ k, 0 ≤ k → k < 3 → M1 61 (3 * T + k) = M 61 (3 * T + k) ∧ N1 178 (3 * T + k) = N 178 (3 * T + k) ∧ N1 185 (3 * T + k) = N 185 (3 * T + k))
  ∧ (∀ k, 0 ≤ k → k < 12 → M1 59 (12 * T + k) = M 59 (12 * T + k) ∧ N1 179 (12 * T + k) = N 179 (12 * T + k) ∧ N1 186 (12 * T + k) = N 186 (12 * T + k))
  ∧ (∀ k, 0 ≤ k → k < 10 → M1 62 (10 * T + k) = M 62 (10 * T + k) ∧ N1 180 (10 * T + k) = N 180 (10 * T + k) ∧ N1 187 (10 * T + k) = N 187 (10 * T + k))
/-- routes, in pass 2 -/
def RT1 (Mx Mq : mm_) : Prop := ∀ r : Int, 0 ≤ r → r < Mx 5 1 → Mx 114 (2 * r) = (if Mq 158 r = 0 then -2 else tpl Mq (Mq 158 r)) ∧ Mx 119 r = Mq 164 r ∧ 0 ≤ Mq 164 r ∧ Mq 164 r < 1048576
/-- without the counts of the parts -/
def SY0 [Inhabited gh_] (b F : Int) (M N : mm_) (a : Int) : Prop := (Tks M N ∧ ER b F M N a 0 ∧ M 1 2 = 5) ∧ (SGT M N ∧ PRT b M N ∧ rtl9 M N ∧ (b = 1 → RT1 M N) ∧ GLT F M N)
  ∧ (∀ T, 0 ≤ T → T < M 5 2 → TYP b F M N a T) ∧ ((∀ i j, 0 ≤ i → i < j → j < M 5 2 → M 58 i < M 58 j) ∧ (b = 0 → ∀ u, GLM M u → u < a))
  ∧ (((0 ≤ N 6 75 ∧ N 6 75 ≤ a) ∧ (0 ≤ N 6 104 ∧ N 6 104 ≤ 2 * a) ∧ M 5 3 ≤ 9 * a + 400) ∧ (0 ≤ N 6 76 ∧ 2 * N 6 76 ≤ a) ∧ M 1 7 + 8 * (1201 - a) ≤ 1000000000 - (gg_ : Int) ∧ (0 ≤ N 6 90 ∧ N 6 90 ≤ a) ∧ ((b = 1 → 0 ≤ M 1 21 ∧ M 1 21 < 1048576) ∧ (b = 1 → 0 ≤ M 1 23 ∧ M 1 23 < 64)) ∧ (0 ≤ M 5 4 ∧ 2 * M 5 4 ≤ a) ∧ (0 ≤ N 6 62 ∧ 2 * N 6 62 ≤ a) ∧ (0 ≤ N 6 63 ∧ 2 * N 6 63 ≤ a))
  ∧ (b = 1 → (∃ xs, SRW M N xs) ∧ (0 < N 6 62 → N 199 (N 6 62 - 1) = N 6 63))
def SYS [Inhabited gh_] (b F : Int) (M N : mm_) (a ns nr np : Int) : Prop := SY0 b F M N a ∧ ((M 1 31 = ns ∧ M 1 32 = nr ∧ M 1 33 = np) ∧ (0 ≤ ns ∧ 0 ≤ nr ∧ 0 ≤ np) ∧ (b = 0 → M 5 0 = ns ∧ M 5 1 = nr ∧ M 5 2 = np)) ∧ (∀ T, 0 ≤ T → T < M 5 2 → CNT M N T)
section SYs
variable {b F F1 : Int} {M N M1 N1 : mm_} {a a1 T : Int}
theorem VTt_c [Inhabited gh_] (h : VTt M N T) (r : ROW M N M1 N1 T) (h70 : M1 70 = M 70) (h151 : N1 151 = N 151) : VTt M1 N1 T := by
  obtain ⟨⟨r58, r120, r121, r123, r124, r125, r126, r128⟩, ⟨s167, s168, s169, s171, s172, s173, s174, s175⟩, r8, r3, r12, r10⟩ := r
  obtain ⟨v1, v2, v3, v4⟩ := h
  unfold VTt
  rw [r124, r126, s171, s173, h151]
  refine ⟨v1, v2, fun k k0 k1 => ?_, fun k k0 k1 => ?_⟩
  · obtain ⟨⟨x1, x2, x3, x4⟩, y1, y2, y3, y4, y5⟩ := r8 k k0 (by (clear h70 h151 r58 r120 r121 r123 r124 r125 r126 r128 s167 s168 s169 s171 s172 s173 s174 s175 r8 r3 r12 r10 v2 v3 v4 k0; omega))
    have w := v3 k k0 k1
    rw [x1, x2, x3, x4, y1, y3, y4, y5]
    exact ⟨nm9_r w.1 h70, w.2⟩
  · obtain ⟨x1, y1, y2⟩ := r3 k k0 (by (clear h70 h151 r58 r120 r121 r123 r124 r125 r126 r128 s167 s168 s169 s171 s172 s173 s174 s175 r8 r3 r12 r10 v1 v3 v4 k0; omega))
    have w := v4 k k0 k1
    rw [x1, y1]
    exact ⟨nm9_r w.1 h70, w.2⟩
theorem DCL_row [Inhabited gh_] (h : VTt M N T) (r : ROW M N M1 N1 T) {u : Int} : DCL M1 T u ↔ DCL M T u := by
  have c4 := h.1
  have c6 := h.2.1
  unfold DCL
  rw [r.1.2.2.2.2.1, r.1.2.2.2.2.2.2.1]
  constructor
  · rintro (⟨k, hk, e⟩ | ⟨k, hk, e⟩)
    · exact .inl ⟨k, hk, by rw [← (r.2.2.1 k hk.1 (by omega)).1.1]; exact e⟩
    · exact .inr ⟨k, hk, by rw [← (r.2.2.2.1 k hk.1 (by omega)).1]; exact e⟩
  · rintro (⟨k, hk, e⟩ | ⟨k, hk, e⟩)
    · exact .inl ⟨k, hk, by rw [(r.2.2.1 k hk.1 (by omega)).1.1]; exact e⟩
    · exact .inr ⟨k, hk, by rw [(r.2.2.2.1 k hk.1 (by omega)).1]; exact e⟩
theorem TBL_row [Inhabited gh_] (h : TBL F M N T) (hv : VTt M N T) (r : ROW M N M1 N1 T) (h71 : M1 71 = M 71) (h151 : N1 151 = N 151) (hF : F1 ≤ F) : TBL F1 M1 N1 T := by
  have c4 := hv.1
  have c6 := hv.2.1
  have dc : ∀ u, DCL M1 T u ↔ DCL M T u := fun u => DCL_row hv r
  obtain ⟨⟨r58, r120, r121, r123, r124, r125, r126, r128⟩, ⟨s167, s168, s169, s171, s172, s173, s174, s175⟩, r8, r3, r12, r10⟩ := r
  obtain ⟨t1, t2, t3, t4⟩ := h
  unfold TBL
  rw [s172, r125, r124, r126, h71, h151]
  refine ⟨⟨t1.1, t1.2.1, t1.2.2.1, fun k k0 k1 hs => ?_, fun i k i0 i1 k1 => ?_⟩, fun k k0 k1 => ?_, fun k k0 k1 => ?_, fun u v hu hv he hl => ?_⟩
  · have h9 := t1.2.2.2.1 k k0 (by rw [r124] at k1; exact k1) (fun i i0 i1 => by
      have e := hs i i0 i1
      rw [(r8 i i0 (by (clear hv h71 h151 hF c6 dc r58 r120 r121 r123 r125 r126 r128 s167 s168 s169 s172 s173 s174 s175 r8 r3 r12 r10 t1 t2 t3 t4 hs i0 e; lia))).1.2.2.1] at e; exact e)
    rw [r124, r125]
    by_cases ck : k = M 124 T
    · rw [if_pos ck] at h9 ⊢; exact h9
    · rw [if_neg ck] at h9 ⊢; rw [(r8 k k0 (by (clear hv h71 h151 hF c6 dc r58 r120 r121 r123 r125 r126 r128 s167 s168 s169 s172 s173 s174 s175 r8 r3 r12 r10 t1 t2 t3 t4 k0 hs; lia))).1.2.2.2]; exact h9
  · rw [r124] at k1
    have h9 := t1.2.2.2.2 i k i0 i1 k1
    rw [(r8 k (by (clear hv h71 h151 hF c4 c6 dc r58 r120 r121 r123 r124 r125 r126 r128 s167 s168 s169 s171 s172 s173 s174 s175 r8 r3 r12 r10 t1 t2 t3 t4 k1 h9; lia)) (by (clear hv h71 h151 hF c6 dc r58 r120 r121 r123 r125 r126 r128 s167 s168 s169 s172 s173 s174 s175 r8 r3 r12 r10 t1 t2 t3 t4 i0 i1 h9; lia))).1.2.2.2, (r8 i i0 (by (clear hv h71 h151 hF c6 dc r58 r120 r121 r123 r125 r126 r128 s167 s168 s169 s172 s173 s174 s175 r8 r3 r12 r10 t1 t2 t3 t4 i0 h9; lia))).1.2.2.1, (r8 i i0 (by omega)).1.2.2.2]; exact h9
  · obtain ⟨⟨x1, x2, x3, x4⟩, y1, y2, y3, y4, y5⟩ := r8 k k0 (by (clear hv h71 h151 hF c6 dc r58 r120 r121 r123 r125 r126 r128 s167 s168 s169 s172 s173 s174 s175 r8 r3 r12 r10 t1 t2 t3 t4 k0; lia))
    rw [x1, x3, x4, y2]; exact t2 k k0 k1
  · obtain ⟨x1, y1, y2⟩ := r3 k k0 (by (clear hv h71 h151 hF c4 dc r58 r120 r121 r123 r124 r125 r128 s167 s168 s169 s171 s172 s174 s175 r8 r3 r12 r10 t1 t2 t3 t4 k0; lia))
    rw [x1, y2]; exact t3 k k0 k1
  · have := t4 u v ((dc u).1 hu) ((dc v).1 hv) he hl; (clear h71 h151 c4 c6 dc r58 r120 r121 r123 r124 r125 r126 r128 s167 s168 s169 s171 s172 s173 s174 s175 r8 r3 r12 r10 t1 t2 t3 t4 hu hv he hl; omega)
theorem STt_c [Inhabited gh_] (h : STt M N T) (r : ROW M N M1 N1 T) (h70 : M1 70 = M 70) (h151 : N1 151 = N 151) : STt M1 N1 T := by
  obtain ⟨s1, s2⟩ := h
  unfold STt
  rw [r.1.2.2.2.1, r.2.1.2.2.2.2.2.2.1, h151]
  refine ⟨s1, fun k k0 k1 => ?_⟩
  have x := r.2.2.2.2.1 k k0 (by omega)
  rw [x.1, x.2.1]
  exact ⟨nm9_r (s2 k k0 k1).1 h70, (s2 k k0 k1).2⟩
theorem LBt_c [Inhabited gh_] (h : LBt b F M N a T) (r : ROW M N M1 N1 T) (h70 : M1 70 = M 70) (h71 : M1 71 = M 71) (h151 : N1 151 = N 151) (hF : F1 ≤ F) (ha : a ≤ a1) : LBt b F1 M1 N1 a1 T := by
  obtain ⟨⟨l1, l2⟩, l3⟩ := h
  unfold LBt
  rw [r.1.2.2.2.2.2.2.2, r.2.1.2.2.2.2.2.2.2, h151, h71]
  refine ⟨⟨l1, fun k k0 k1 => ?_⟩, fun k k0 k1 => ?_⟩
  · have x := r.2.2.2.2.2 k k0 (by omega)
    rw [x.1, x.2.1]
    exact ⟨nm9_r (l2 k k0 k1).1 h70, (l2 k k0 k1).2⟩
  · have x := r.2.2.2.2.2 k k0 (by omega)
    obtain ⟨m1, m2, m3⟩ := l3 k k0 k1
    rw [x.1, x.2.1, x.2.2]
    refine ⟨m1, fun hb => by have := m2 hb; omega, fun i i0 i1 => ?_⟩
    have y := r.2.2.2.2.2 i i0 (by (clear r h70 h71 h151 hF ha l3 l2 x m1 m2 m3 i0; lia))
    rw [y.1, y.2.1]
    exact ⟨(m3 i i0 i1).1, fun e => by have := (m3 i i0 i1).2 e; omega⟩
theorem TYP_c [Inhabited gh_] (h : TYP b F M N a T) (r : ROW M N M1 N1 T) (h70 : M1 70 = M 70) (h71 : M1 71 = M 71) (h151 : N1 151 = N 151) (hF : F1 ≤ F) (ha : a ≤ a1) : TYP b F1 M1 N1 a1 T := by
  obtain ⟨h1, h2, h3, h4, h5, h6⟩ := h
  refine ⟨VTt_c h1 r h70 h151, TBL_row h2 h1 r h71 h151 hF, STt_c h3 r h70 h151, fun k k0 k1 => ?_, LBt_c h5 r h70 h71 h151 hF ha, ?_⟩
  · rw [r.1.2.2.2.1] at k1
    have x := r.2.2.2.2.1 k k0 (by have := h3.1.2.1; omega)
    rw [x.2.2, x.1, h71]; exact h4 k k0 k1
  · rw [r.2.1.1, h71, r.1.1]; exact h6
theorem CNT_c [Inhabited gh_] (h : CNT M N T) (r : ROW M N M1 N1 T) : CNT M1 N1 T := by
  unfold CNT
  rw [r.2.1.2.1, r.2.1.2.2.1, r.1.2.1, r.1.2.2.1]; exact h
theorem ROW_rf [Inhabited gh_] : ROW M N M N T := ⟨⟨rfl, rfl, rfl, rfl, rfl, rfl, rfl, rfl⟩, ⟨rfl, rfl, rfl, rfl, rfl, rfl, rfl, rfl⟩, fun _ _ _ => ⟨⟨rfl, rfl, rfl, rfl⟩, rfl, rfl, rfl, rfl, rfl⟩, fun _ _ _ => ⟨rfl, rfl, rfl⟩, fun _ _ _ => ⟨rfl, rfl, rfl⟩, fun _ _ _ => ⟨rfl, rfl, rfl⟩⟩
theorem ROW_tr [Inhabited gh_] {M2 N2 : mm_} (h : ROW M N M1 N1 T) (g : ROW M1 N1 M2 N2 T) : ROW M N M2 N2 T := by
  obtain ⟨⟨a1, a2, a3, a4, a5, a6, a7, a8⟩, ⟨b1, b2, b3, b4, b5, b6, b7, b8⟩, r8, r3, r12, r10⟩ := h
  obtain ⟨⟨c1, c2, c3, c4, c5, c6, c7, c8⟩, ⟨d1, d2, d3, d4, d5, d6, d7, d8⟩, s8, s3, s12, s10⟩ := g
  refine ⟨⟨c1.trans a1, c2.trans a2, c3.trans a3, c4.trans a4, c5.trans a5, c6.trans a6, c7.trans a7, c8.trans a8⟩, ⟨d1.trans b1, d2.trans b2, d3.trans b3, d4.trans b4, d5.trans b5, d6.trans b6, d7.trans b7, d8.trans b8⟩, fun k k0 k1 => ?_, fun k k0 k1 => ?_, fun k k0 k1 => ?_, fun k k0 k1 => ?_⟩
  · obtain ⟨⟨x1, x2, x3, x4⟩, y1, y2, y3, y4, y5⟩ := r8 k k0 k1
    obtain ⟨⟨z1, z2, z3, z4⟩, w1, w2, w3, w4, w5⟩ := s8 k k0 k1
    exact ⟨⟨z1.trans x1, z2.trans x2, z3.trans x3, z4.trans x4⟩, w1.trans y1, w2.trans y2, w3.trans y3, w4.trans y4, w5.trans y5⟩
  · obtain ⟨x1, x2, x3⟩ := r3 k k0 k1
    obtain ⟨z1, z2, z3⟩ := s3 k k0 k1
    exact ⟨z1.trans x1, z2.trans x2, z3.trans x3⟩
  · obtain ⟨x1, x2, x3⟩ := r12 k k0 k1
    obtain ⟨z1, z2, z3⟩ := s12 k k0 k1
    exact ⟨z1.trans x1, z2.trans x2, z3.trans x3⟩
  · obtain ⟨x1, x2, x3⟩ := r10 k k0 k1
    obtain ⟨z1, z2, z3⟩ := s10 k k0 k1
    exact ⟨z1.trans x1, z2.trans x2, z3.trans x3⟩
def rwX : List Nat := [58, 59, 60, 61, 62, 120, 121, 123, 124, 125, 126, 128, 130, 131, 132]
def rwQ : List Nat := [167, 168, 169, 171, 172, 173, 174, 175, 177, 178, 179, 180, 181, 182, 183, 184, 185, 186, 187]
theorem ROW_e [Inhabited gh_] (hx : ∀ r : Nat, r ∈ rwX → M1 r = M r) (hq : ∀ r : Nat, r ∈ rwQ → N1 r = N r) : ROW M N M1 N1 T := by
  unfold ROW
  rw [hx 58 (by decide), hx 59 (by decide), hx 60 (by decide), hx 61 (by decide), hx 62 (by decide), hx 120 (by decide), hx 121 (by decide), hx 123 (by decide), hx 124 (by decide), hx 125 (by decide), hx 126 (by decide), hx 128 (by decide), hx 130 (by decide), hx 131 (by decide), hx 132 (by decide), hq 167 (by decide), hq 168 (by decide), hq 169 (by decide), hq 171 (by decide), hq 172 (by decide), hq 173 (by decide), hq 174 (by decide), hq 175 (by decide), hq 177 (by decide), hq 178 (by decide), hq 179 (by decide), hq 180 (by decide), hq 181 (by decide), hq 182 (by decide), hq 183 (by decide), hq 184 (by decide), hq 185 (by decide), hq 186 (by decide), hq 187 (by decide)]
  exact ROW_rf
end SYs
end T251_sy
section T252_sh
/-! from the system to a process's head -/
def sT_ (M : mm_) (T : Int) : mm_ := up_ (up_ (up_ (up_ (up_ M 1 18 T) 1 33 (T + 1)) 1 19 0) 1 20 0) 1 29 0
section SHd
variable {b F F1 : Int} {M N M1 N1 : mm_} {a a1 T t : Int}
theorem sT_r [Inhabited gh_] {r : Nat} (h : r ≠ 1) : sT_ M T r = M r := by unfold sT_; rw [up_ne h, up_ne h, up_ne h, up_ne h, up_ne h]
theorem sT_1 [Inhabited gh_] {i : Int} (h1 : i ≠ 18) (h2 : i ≠ 33) (h3 : i ≠ 19) (h4 : i ≠ 20) (h5 : i ≠ 29) : sT_ M T 1 i = M 1 i := by unfold sT_; rw [up_of2 h5, up_of2 h4, up_of2 h3, up_of2 h2, up_of2 h1]
theorem sT_k [Inhabited gh_] : sT_ M T 1 18 = T ∧ sT_ M T 1 19 = 0 ∧ sT_ M T 1 29 = 0 ∧ sT_ M T 1 33 = T + 1 := by
  unfold sT_
  refine ⟨?_, ?_, up_at, ?_⟩
  · rw [up_of2 (by decide), up_of2 (by decide), up_of2 (by decide), up_of2 (by decide), up_at]
  · rw [up_of2 (by decide), up_of2 (by decide), up_at]
  · rw [up_of2 (by decide), up_of2 (by decide), up_of2 (by decide), up_at]
theorem sT_b [Inhabited gh_] : bl_ (sT_ M T 1 8) ↔ bl_ (M 1 8) := by rw [sT_1 (by decide) (by decide) (by decide) (by decide) (by decide)]
/-- the numbers chosen are plain ones -/
theorem ER_1b [Inhabited gh_] {o : Int} (h : ER b F M N a o) (h70 : M1 70 = M 70) (h5 : M1 5 3 = M 5 3) (h1 : ∀ i : Int, i ∈ [3, 4, 5, 6, 7, 8] → M1 1 i = M 1 i) (hq : ∀ i : Int, i ∈ [12, 13, 14, 15, 16] → N1 6 i = N 6 i) (hb : bb_ (M1 1 19) = bb_ (M 1 19)) : ER b F M1 N1 a o := by
  unfold ER NR gd_ at h ⊢
  rw [h70, h5, h1 3 (by decide), h1 4 (by decide), h1 5 (by decide), h1 6 (by decide), h1 7 (by decide), h1 8 (by decide), hq 12 (by decide), hq 13 (by decide), hq 14 (by decide), hq 15 (by decide), hq 16 (by decide), hb]
  exact h
theorem ER_1 [Inhabited gh_] {o : Int} (h : ER b F M N a o) (h70 : M1 70 = M 70) (h5 : M1 5 3 = M 5 3) (h1 : ∀ i : Int, i ∈ [3, 4, 5, 6, 7, 8, 19] → M1 1 i = M 1 i) (hq : ∀ i : Int, i ∈ [12, 13, 14, 15, 16] → N1 6 i = N 6 i) : ER b F M1 N1 a o := by
  unfold ER NR gd_ at h ⊢
  rw [h70, h5, h1 3 (by decide), h1 4 (by decide), h1 5 (by decide), h1 6 (by decide), h1 7 (by decide), h1 8 (by decide), h1 19 (by decide), hq 12 (by decide), hq 13 (by decide), hq 14 (by decide), hq 15 (by decide), hq 16 (by decide)]
  exact h
theorem fi_first [Inhabited gh_] {g : Int → Int} {v : Int} : ∀ {n : Nat} {k j i : Int}, 0 ≤ k → fi_ g v n k = j → k ≤ i → i < j → g i = v → False
  | 0, k, j, i, h0, h, h1, h2, _ => by
    have : (-1 : Int) = j := h
    omega
  | n + 1, k, j, i, h0, h, h1, h2, e => by
    unfold fi_ at h
    split at h
    · omega
    · rename_i c
      by_cases ci : i = k
      · rw [ci] at e; exact c e
      · exact fi_first (by omega) h (by omega) h2 e
theorem SY_HDR [Inhabited gh_] (hg : GHP) (h : SY0 b F M N a) (hT : 0 ≤ T ∧ T < M 5 2) (ht : M 58 T < a) (h76 : 2 * N 6 76 + 2 ≤ a) (ha : 2 ≤ a) (hd : b = 0 → M 124 T = 0 ∧ M 126 T = 0) : HDR b F (sT_ M T) (up_ N 6 61 T) a := by
  obtain ⟨⟨s1, s2, s3⟩, ⟨g1, g2, g3, g4, g5⟩, ty, ⟨tp, gl⟩, ⟨⟨c1, c2, c3⟩, c4, c5, c6, c7, c8, c9, c10⟩, sr⟩ := h
  have x : ∀ r : Nat, r ≠ 1 → sT_ M T r = M r := fun r h => sT_r h
  have q : ∀ r : Nat, r ≠ 6 → up_ N 6 61 T r = N r := fun r h => up_ne h
  have q6 : ∀ i : Int, i ≠ 61 → up_ N 6 61 T 6 i = N 6 i := fun i h => up_of2 h
  have q61 : up_ N 6 61 T 6 61 = T := up_at
  obtain ⟨k18, k19, k29, _⟩ := sT_k (M := M) (T := T)
  have x1 : ∀ i : Int, i ≠ 18 → i ≠ 33 → i ≠ 19 → i ≠ 20 → i ≠ 29 → sT_ M T 1 i = M 1 i := fun i a1 a2 a3 a4 a5 => sT_1 a1 a2 a3 a4 a5
  have t6 : T < 6 := by have := g2.1.1; (clear hg ht h76 ha hd s1 s2 s3 g1 g2 g3 g4 g5 ty tp gl sr c1 c2 c3 c4 c5 c6 c7 c8 c9 c10 x q q6 k19 k29 x1; lia)
  obtain ⟨v1, v2, v3, v4, v5, v6⟩ := ty T hT.1 hT.2
  have tpe : tpl (up_ N 6 61 T) = tpl N := by funext y; unfold tpl; rw [q6 19 (by decide), q 154 (by decide)]
  have hTk : Tks (sT_ M T) (up_ N 6 61 T) := Tks_r s1 (fun r hr => x r (fun e => by rw [e] at hr; revert hr; decide)) (fun r hr => q r (fun e => by rw [e] at hr; revert hr; decide))
  have hE : ER b F (sT_ M T) (up_ N 6 61 T) a 0 := ER_1b s2 (x 70 (by decide)) (by rw [x 5 (by decide)]) (fun i hi => x1 i (fun e => by rw [e] at hi; revert hi; decide) (fun e => by rw [e] at hi; revert hi; decide) (fun e => by rw [e] at hi; revert hi; decide) (fun e => by rw [e] at hi; revert hi; decide) (fun e => by rw [e] at hi; revert hi; decide)) (fun i hi => q6 i (fun e => by rw [e] at hi; revert hi; decide)) (by rw [hg.2.2, hg.2.2 (M 1 19)])
  have row : ROW M N (sT_ M T) (up_ N 6 61 T) T := ROW_e (fun r hr => x r (fun e => by rw [e] at hr; revert hr; decide)) (fun r hr => q r (fun e => by rw [e] at hr; revert hr; decide))
  have e70 := x 70 (by decide)
  have e71 := x 71 (by decide)
  have e151 := q 151 (by decide)
  have w1 : VTt (sT_ M T) (up_ N 6 61 T) T := VTt_c v1 row e70 e151
  have w2 : TBL F (sT_ M T) (up_ N 6 61 T) T := TBL_row v2 v1 row e71 e151 (Int.le_refl _)
  have w3 : STt (sT_ M T) (up_ N 6 61 T) T := STt_c v3 row e70 e151
  have w5 : LBt b F (sT_ M T) (up_ N 6 61 T) a T := LBt_c v5 row e70 e71 e151 (Int.le_refl _) (Int.le_refl _)
  have nm : ∀ u, nm9_ M u → nm9_ (sT_ M T) u := fun u hu => nm9_r hu e70
  have hG : GT b F (sT_ M T) (up_ N 6 61 T) (sT_ M T 71 a) := by
    obtain ⟨⟨a1, a1'⟩, a2⟩ := g1
    obtain ⟨⟨a3, a3'⟩, a4, a5⟩ := g2
    obtain ⟨a6, a6'⟩ := g3
    unfold GT SGT PRT RTT sgl9 tpl9 rtl9
    rw [tpe, q61, e151, e71, x 5 (by decide), x 56 (by decide), x 57 (by decide), x 58 (by decide), x 112 (by decide), x 113 (by decide), x 122 (by decide), x 130 (by decide), x 114 (by decide), x 119 (by decide), q6 17 (by decide), q6 18 (by decide), q6 19 (by decide), q 152 (by decide), q 153 (by decide), q 154 (by decide), q 156 (by decide), q 157 (by decide), q 158 (by decide), q 164 (by decide), q 170 (by decide), q 182 (by decide), q 183 (by decide)]
    refine ⟨⟨⟨a1, fun k k0 k1 => ⟨nm _ (a1' k k0 k1).1, (a1' k k0 k1).2⟩⟩, a2⟩, ⟨⟨a3, fun k k0 k1 => ⟨nm _ (a3' k k0 k1).1, (a3' k k0 k1).2⟩⟩, a4, a5⟩, ⟨a6, fun k k0 k1 => ⟨nm _ (a6' k k0 k1).1, (a6' k k0 k1).2⟩⟩, fun hb => ⟨fun r r0 r1 => g4 hb r r0 r1, ⟨hT.1, by rw [a3.2.2]; exact hT.2, ?_⟩, ?_⟩⟩
    · have z := a3' T hT.1 hT.2
      have := (s1 _ z.1.1).2.2.2.2.2.1 z.1.2
      rw [z.2]; (clear hg hT ht h76 ha hd s1 s2 s3 g4 g5 ty tp gl sr c1 c2 c3 c4 c5 c6 c7 c8 c9 c10 x q q6 q61 k18 k19 k29 x1 t6 v1 v2 v3 v4 v5 v6 tpe hTk hE row e70 e71 e151 w1 w2 w3 w5 nm a2 a1 a1' a3 a3' a4 a5 a6 a6' hb z; omega)
    · have z := a3' T hT.1 hT.2
      unfold tpl
      rcases fi_r (fun i => N 154 i) (N 154 T) (N 6 19).toNat 0 with e | ⟨e1, e2, e3⟩
      · exact absurd rfl (fi_no _ _ _ _ e (Int.le_refl _) T hT.1 (by rw [a3.2.2]; (clear hg ht h76 ha hd s1 s2 s3 g4 g5 ty tp gl sr c1 c2 c3 c4 c5 c6 c7 c8 c9 c10 x q q6 k19 k29 x1 t6 v1 v2 v3 v4 v5 v6 tpe hTk hE row e70 e71 e151 w1 w2 w3 w5 nm a2 a1 a1' a3' a4 a5 a6 a6' hb z e; lia)))
      · generalize eg : fi_ (fun i => N 154 i) (N 154 T) (N 6 19).toNat 0 = j at e1 e2 e3
        by_cases c : j = T
        · exact .inl c
        · refine .inr ?_
          have e3' : N 154 j = N 154 T := e3
          have lt : j < T := by
            by_cases cc : j < T
            · exact cc
            · exfalso
              have : T < j := by (clear hg hT ht h76 ha hd s1 s2 s3 g4 g5 ty tp gl sr c1 c2 c3 c4 c5 c6 c7 c8 c9 c10 x q q6 k19 k29 x1 t6 v1 v2 v3 v4 v5 v6 tpe hTk hE row e70 e71 e151 w1 w2 w3 w5 nm a2 a1 a1' a3 a3' a4 a5 a6 a6' hb z eg e1 e2 e3 e3'; lia)
              exact fi_first (Int.le_refl _) eg hT.1 this rfl
          have zj := a3' j e1 (by (clear hg ht h76 ha hd s1 s2 s3 g4 g5 ty tp gl sr c1 c2 c3 c4 c5 c6 c7 c8 c9 c10 x q q6 k19 k29 x1 t6 v1 v2 v3 v4 v5 v6 tpe hTk hE row e70 e71 e151 w1 w2 w3 w5 nm a2 a1 a1' a3' a4 a5 a6 a6' hb z eg e1 e2 e3 c e3'; lia))
          have := g5.2.2.1 (M 58 j) (M 58 T) (.inr (.inr ⟨j, ⟨e1, by omega⟩, rfl⟩)) (.inr (.inr ⟨T, hT, rfl⟩)) (by rw [← zj.2, ← z.2]; exact e3') (tp j T e1 lt hT.2)
          have lt2 := (s1 a s2.1).2.2.2.2.1 (M 58 T) z.1.1 ht
          (clear hg hT ht h76 ha hd s1 s2 s3 g4 g5 ty tp gl sr c1 c2 c3 c4 c5 c6 c7 c8 c9 c10 x q q6 q61 k18 k19 k29 x1 t6 v1 v2 v3 v4 v5 v6 tpe hTk hE row e70 e71 e151 w1 w2 w3 w5 nm a2 a1 a1' a3 a3' a4 a5 a6 a6' hb z eg e1 e2 e3 c e3' lt zj; lia)
  refine ⟨⟨⟨⟨hTk, ⟨by rw [x1 2 (by decide) (by decide) (by decide) (by decide) (by decide)]; exact s3, by rw [q61, k18], by rw [k18]; exact hT.1, by rw [k18]; exact t6, by rw [k18]; exact w1⟩, hE, by rw [q6 75 (by decide)]; exact c1, by rw [q6 104 (by decide)]; exact c2, by rw [x 5 (by decide)]; (clear hg hT ht h76 ha hd s1 s2 s3 g1 g2 g3 g4 g5 ty tp gl sr c1 c2 c4 c5 c6 c7 c8 c9 c10 x q q6 q61 k18 k19 k29 x1 t6 v1 v2 v3 v4 v5 v6 tpe hTk hE row e70 e71 e151 w1 w2 w3 w5 nm hG; lia)⟩, hG, by
    have l5 : LBt b F (sT_ M T) (up_ N 6 61 T) a (sT_ M T 1 18) := by rw [k18]; exact w5
    exact ⟨l5.1, l5.2, fun _ => .inl hg.1, fun _ k _ _ => .inl (by rw [hg.2.2 k, hg.2.2 (k + 1)]; exact Int.le_refl _)⟩, by
    show STt (sT_ M T) (up_ N 6 61 T) (sT_ M T 1 18)
    rw [k18]; exact w3, ⟨by rw [k29]; omega, by rw [q6 76 (by decide)]; omega⟩, by rw [x1 7 (by decide) (by decide) (by decide) (by decide) (by decide)]; exact c5, by rw [q6 90 (by decide)]; exact c6, by rw [x1 21 (by decide) (by decide) (by decide) (by decide) (by decide), x1 23 (by decide) (by decide) (by decide) (by decide) (by decide)]; exact c7, by rw [k19]; exact Int.le_refl _, by rw [x 5 (by decide)]; exact c3⟩, ⟨by rw [x 5 (by decide)]; (clear hg hT ht h76 ha hd s1 s2 s3 g1 g2 g3 g4 g5 ty tp gl sr c1 c2 c3 c4 c5 c6 c7 c9 c10 x q q6 q61 k18 k19 k29 x1 t6 v1 v2 v3 v4 v5 v6 tpe hTk hE row e70 e71 e151 w1 w2 w3 w5 nm hG; lia), by rw [q6 62 (by decide)]; (clear hg hT ht h76 ha hd s1 s2 s3 g1 g2 g3 g4 g5 ty tp gl sr c1 c2 c3 c4 c5 c6 c7 c8 c10 x q q6 q61 k18 k19 k29 x1 t6 v1 v2 v3 v4 v5 v6 tpe hTk hE row e70 e71 e151 w1 w2 w3 w5 nm hG; lia), by rw [q6 63 (by decide)]; (clear hg hT ht h76 ha hd s1 s2 s3 g1 g2 g3 g4 g5 ty tp gl sr c1 c2 c3 c4 c5 c6 c7 c8 c9 x q q6 q61 k18 k19 k29 x1 t6 v1 v2 v3 v4 v5 v6 tpe hTk hE row e70 e71 e151 w1 w2 w3 w5 nm hG; omega)⟩, fun hb => ?_⟩, by rw [k18]; exact w2, fun hb u hu => ?_, hg.1, fun _ => .inl hg.2.1⟩
  · obtain ⟨⟨xs, hs⟩, hl⟩ := sr hb
    refine ⟨⟨xs, SRW_c hs (by rw [x 5 (by decide)]) (x _ (by decide)) (x _ (by decide)) (x _ (by decide)) (x _ (by decide)) (x _ (by decide)) (q6 _ (by decide)) (q6 _ (by decide)) (q _ (by decide)) (q _ (by decide)) (q _ (by decide)) (q _ (by decide)) (q _ (by decide)) (q _ (by decide))⟩, ?_⟩
    rw [q6 62 (by decide), q6 63 (by decide), q 199 (by decide)]; exact hl
  · rw [k18, DCL_c (x _ (by decide)) (x _ (by decide)) (x _ (by decide)) (x _ (by decide))] at hu
    have z := hd hb
    rcases hu with ⟨k, hk, _⟩ | ⟨k, hk, _⟩ <;> (clear hg hT ht h76 ha hd s1 s2 s3 g1 g2 g3 g4 g5 ty tp gl sr c1 c2 c3 c4 c5 c6 c7 c8 c9 c10 x q q6 q61 k18 k19 k29 x1 t6 v1 v2 v3 v4 v5 v6 tpe hTk hE row e70 e71 e151 w1 w2 w3 w5 nm hG hb; omega)
end SHd
end T252_sh
section T253_ty
/-! a type more (pass 1) -/
def zX_ (M : mm_) (t : Int) : mm_ := up_ (up_ (up_ (up_ (up_ (up_ (up_ M 58 (M 5 2) t) 124 (M 5 2) 0) 126 (M 5 2) 0) 123 (M 5 2) 0) 128 (M 5 2) 0) 125 (M 5 2) 0) 5 2 (M 5 2 + 1)
def zQ_ (N : mm_) (T t : Int) : mm_ := up_ (up_ (up_ (up_ (up_ (up_ (up_ (up_ (up_ N 154 T (N 151 t)) 167 T (N 150 t)) 170 T 0) 171 T 0) 172 T 0) 173 T 0) 174 T 0) 175 T 0) 6 19 (N 6 19 + 1)
section TYz
variable {b F F1 : Int} {M N M1 N1 : mm_} {a a1 T t : Int}
theorem zX_r [Inhabited gh_] {r : Nat} (h : r ∉ [5, 58, 123, 124, 125, 126, 128]) : zX_ M t r = M r := by
  unfold zX_
  rw [up_ne (fun e => h (by rw [e]; decide)), up_ne (fun e => h (by rw [e]; decide)), up_ne (fun e => h (by rw [e]; decide)), up_ne (fun e => h (by rw [e]; decide)), up_ne (fun e => h (by rw [e]; decide)), up_ne (fun e => h (by rw [e]; decide)), up_ne (fun e => h (by rw [e]; decide))]
theorem zX_o [Inhabited gh_] {r : Nat} {i : Int} (h : r ≠ 5) (hi : i ≠ M 5 2) : zX_ M t r i = M r i := by
  unfold zX_
  rw [up_ne h, up_of2 hi, up_of2 hi, up_of2 hi, up_of2 hi, up_of2 hi, up_of2 hi]
theorem zX_5 [Inhabited gh_] {i : Int} (h : i ≠ 2) : zX_ M t 5 i = M 5 i := by
  unfold zX_
  rw [up_of2 h, up_ne (by decide), up_ne (by decide), up_ne (by decide), up_ne (by decide), up_ne (by decide), up_ne (by decide)]
theorem zX_k [Inhabited gh_] : zX_ M t 5 2 = M 5 2 + 1 ∧ zX_ M t 58 (M 5 2) = t ∧ zX_ M t 124 (M 5 2) = 0 ∧ zX_ M t 126 (M 5 2) = 0 ∧ zX_ M t 123 (M 5 2) = 0 ∧ zX_ M t 128 (M 5 2) = 0 ∧ zX_ M t 125 (M 5 2) = 0 := by
  unfold zX_
  refine ⟨up_at, ?_, ?_, ?_, ?_, ?_, ?_⟩
  · rw [up_ne (by decide), up_ne (by decide), up_ne (by decide), up_ne (by decide), up_ne (by decide), up_ne (by decide), up_at]
  · rw [up_ne (by decide), up_ne (by decide), up_ne (by decide), up_ne (by decide), up_ne (by decide), up_at]
  · rw [up_ne (by decide), up_ne (by decide), up_ne (by decide), up_ne (by decide), up_at]
  · rw [up_ne (by decide), up_ne (by decide), up_ne (by decide), up_at]
  · rw [up_ne (by decide), up_ne (by decide), up_at]
  · rw [up_ne (by decide), up_at]
theorem zQ_r [Inhabited gh_] {r : Nat} (h : r ∉ [6, 154, 167, 170, 171, 172, 173, 174, 175]) : zQ_ N T t r = N r := by
  unfold zQ_
  rw [up_ne (fun e => h (by rw [e]; decide)), up_ne (fun e => h (by rw [e]; decide)), up_ne (fun e => h (by rw [e]; decide)), up_ne (fun e => h (by rw [e]; decide)), up_ne (fun e => h (by rw [e]; decide)), up_ne (fun e => h (by rw [e]; decide)), up_ne (fun e => h (by rw [e]; decide)), up_ne (fun e => h (by rw [e]; decide)), up_ne (fun e => h (by rw [e]; decide))]
theorem zQ_o [Inhabited gh_] {r : Nat} {i : Int} (h : r ≠ 6) (hi : i ≠ T) : zQ_ N T t r i = N r i := by
  unfold zQ_
  rw [up_ne h, up_of2 hi, up_of2 hi, up_of2 hi, up_of2 hi, up_of2 hi, up_of2 hi, up_of2 hi, up_of2 hi]
theorem zQ_6 [Inhabited gh_] {i : Int} (h : i ≠ 19) : zQ_ N T t 6 i = N 6 i := by
  unfold zQ_
  rw [up_of2 h, up_ne (by decide), up_ne (by decide), up_ne (by decide), up_ne (by decide), up_ne (by decide), up_ne (by decide), up_ne (by decide), up_ne (by decide)]
theorem zQ_k [Inhabited gh_] : zQ_ N T t 6 19 = N 6 19 + 1 ∧ zQ_ N T t 154 T = N 151 t ∧ zQ_ N T t 167 T = N 150 t ∧ zQ_ N T t 170 T = 0 ∧ zQ_ N T t 171 T = 0 ∧ zQ_ N T t 172 T = 0 ∧ zQ_ N T t 173 T = 0 ∧ zQ_ N T t 174 T = 0 ∧ zQ_ N T t 175 T = 0 := by
  unfold zQ_
  refine ⟨up_at, ?_, ?_, ?_, ?_, ?_, ?_, ?_, ?_⟩
  · rw [up_ne (by decide), up_ne (by decide), up_ne (by decide), up_ne (by decide), up_ne (by decide), up_ne (by decide), up_ne (by decide), up_ne (by decide), up_at]
  · rw [up_ne (by decide), up_ne (by decide), up_ne (by decide), up_ne (by decide), up_ne (by decide), up_ne (by decide), up_ne (by decide), up_at]
  · rw [up_ne (by decide), up_ne (by decide), up_ne (by decide), up_ne (by decide), up_ne (by decide), up_ne (by decide), up_at]
  · rw [up_ne (by decide), up_ne (by decide), up_ne (by decide), up_ne (by decide), up_ne (by decide), up_at]
  · rw [up_ne (by decide), up_ne (by decide), up_ne (by decide), up_ne (by decide), up_at]
  · rw [up_ne (by decide), up_ne (by decide), up_ne (by decide), up_at]
  · rw [up_ne (by decide), up_ne (by decide), up_at]
  · rw [up_ne (by decide), up_at]
theorem zQ_61 [Inhabited gh_] {x : Int} : zQ_ (up_ N 6 61 x) T t = up_ (zQ_ N T t) 6 61 x := by
  unfold zQ_
  have e1 : up_ N 6 61 x 151 = N 151 := up_ne (by decide)
  have e2 : up_ N 6 61 x 150 = N 150 := up_ne (by decide)
  have e3 : up_ N 6 61 x 6 19 = N 6 19 := up_of2 (by decide)
  rw [e1, e2, e3, up_cc (r := 6) (r' := 154) (.inl (by decide)), up_cc (r := 6) (r' := 167) (.inl (by decide)), up_cc (r := 6) (r' := 170) (.inl (by decide)), up_cc (r := 6) (r' := 171) (.inl (by decide)), up_cc (r := 6) (r' := 172) (.inl (by decide)), up_cc (r := 6) (r' := 173) (.inl (by decide)), up_cc (r := 6) (r' := 174) (.inl (by decide)), up_cc (r := 6) (r' := 175) (.inl (by decide)), up_cc (r := 6) (r' := 6) (i := 61) (i' := 19) (.inr (by decide))]
theorem gq_r [Inhabited gh_] {r : Nat} (h : r ≠ 6) (h1 : r ≠ 190) (h2 : r ≠ 191) : gq_ N t r = N r := by unfold gq_; rw [up_ne h, up_ne h2, up_ne h1]
theorem gq_6 [Inhabited gh_] {i : Int} (h : i ≠ 58) : gq_ N t 6 i = N 6 i := by unfold gq_; rw [up_of2 h, up_ne (by decide), up_ne (by decide)]
theorem gq_k [Inhabited gh_] : gq_ N t 6 58 = N 6 58 + 1 ∧ gq_ N t 190 (N 6 58) = N 151 t ∧ gq_ N t 191 (N 6 58) = N 150 t := by
  unfold gq_
  refine ⟨up_at, ?_, ?_⟩
  · rw [up_ne (by decide), up_ne (by decide), up_at]
  · rw [up_ne (by decide), up_at]
theorem gq_o [Inhabited gh_] {r : Nat} {i : Int} (h : r ≠ 6) (hi : i ≠ N 6 58) : gq_ N t r i = N r i := by unfold gq_; rw [up_ne h, up_of2 hi, up_of2 hi]
end TYz
end T253_ty
section T254_ta
/-! a type more (pass 1): the relation -/
section TYa
variable {b F F1 : Int} {M N M1 N1 : mm_} {a a1 T t : Int}
theorem SY_ty [Inhabited gh_] (h : SY0 b F M N a) (hb : b = 0) (ht : nm9_ M t) (hta : t < a) (hlt : ∀ u, GLM M u → u < t) (h6 : M 5 2 < 6) (hf : M 1 7 + 1 + 8 * (1201 - a) ≤ 1000000000 - (gg_ : Int)) : SY0 b (Fg_ F M N t) (zX_ (gd1_ M N t) t) (zQ_ (gq_ N t) (M 5 2) t) a := by
  obtain ⟨⟨s1, s2, s3⟩, ⟨g1, g2, g3, g4, g5⟩, ty, ⟨tp, gl⟩, ⟨⟨c1, c2, c3⟩, c4, c5, c6, c7, c8, c9, c10⟩, sr⟩ := h
  have hpl := (s1 t ht.1).2.2.2.1
  have hp15 : N 150 t = M 71 t := (s1 t ht.1).2.1.symm
  have hF : Fg_ F M N t ≤ F := Fg_le
  have e52 : gd1_ M N t 5 2 = M 5 2 := by rw [gd1_r (by decide)]
  have x : ∀ r : Nat, r ∉ [1, 5, 58, 123, 124, 125, 126, 128] → zX_ (gd1_ M N t) t r = M r := fun r h => by rw [zX_r (fun e => h (List.mem_cons_of_mem _ e)), gd1_r (fun e => h (by rw [e]; decide))]
  have xo : ∀ (r : Nat) (i : Int), r ≠ 5 → r ≠ 1 → i ≠ M 5 2 → zX_ (gd1_ M N t) t r i = M r i := fun r i h h1 hi => by rw [zX_o h (by rw [e52]; exact hi), gd1_r h1]
  have x5 : ∀ i : Int, i ≠ 2 → zX_ (gd1_ M N t) t 5 i = M 5 i := fun i h => by rw [zX_5 h, gd1_r (by decide)]
  have x1 : zX_ (gd1_ M N t) t 1 = gd1_ M N t 1 := zX_r (by decide)
  have x1i : ∀ i : Int, i ≠ 4 → i ≠ 5 → i ≠ 7 → zX_ (gd1_ M N t) t 1 i = M 1 i := fun i h4 h5 h7 => by rw [x1]; exact gd1_1 h4 h5 h7
  obtain ⟨k52, k58, k124, k126, k123, k128, k125⟩ := zX_k (M := gd1_ M N t) (t := t)
  rw [e52] at k52 k58 k124 k126 k123 k128 k125
  have q : ∀ r : Nat, r ∉ [6, 154, 167, 170, 171, 172, 173, 174, 175, 190, 191] → zQ_ (gq_ N t) (M 5 2) t r = N r := fun r h => by
    rw [zQ_r (fun e => h (by revert e; simp only [List.mem_cons, List.not_mem_nil, or_false]; (clear hb ht hta hlt h6 hf s1 s2 s3 g1 g2 g3 g4 g5 ty tp gl sr c1 c2 c3 c4 c5 c6 c7 c8 c9 c10 hpl hp15 hF e52 x xo x5 x1 x1i k52 k58 k124 k126 k123 k128 k125 h; lia))), gq_r (fun e => h (by rw [e]; decide)) (fun e => h (by rw [e]; decide)) (fun e => h (by rw [e]; decide))]
  have qo : ∀ (r : Nat) (i : Int), r ≠ 6 → r ≠ 190 → r ≠ 191 → i ≠ M 5 2 → zQ_ (gq_ N t) (M 5 2) t r i = N r i := fun r i h h1 h2 hi => by rw [zQ_o h hi, gq_r h h1 h2]
  have q6 : ∀ i : Int, i ≠ 19 → i ≠ 58 → zQ_ (gq_ N t) (M 5 2) t 6 i = N 6 i := fun i h h' => by rw [zQ_6 h, gq_6 h']
  have q58 : zQ_ (gq_ N t) (M 5 2) t 6 58 = N 6 58 + 1 := by rw [zQ_6 (by decide)]; exact gq_k.1
  have q190 : ∀ (r : Nat) (i : Int), r = 190 ∨ r = 191 → i ≠ N 6 58 → zQ_ (gq_ N t) (M 5 2) t r i = N r i := fun r i hr hi => by rw [zQ_r (by rcases hr with e | e <;> rw [e] <;> decide), gq_o (by (clear hb ht hta hlt h6 hf s1 s2 s3 g1 g2 g3 g4 g5 ty tp gl sr c1 c2 c3 c4 c5 c6 c7 c8 c9 c10 hpl hp15 hF e52 x xo x5 x1 x1i k52 k58 k124 k126 k123 k128 k125 q qo q6 q58; lia)) hi]
  have q190k : zQ_ (gq_ N t) (M 5 2) t 190 (N 6 58) = N 151 t ∧ zQ_ (gq_ N t) (M 5 2) t 191 (N 6 58) = N 150 t := by rw [zQ_r (by decide), zQ_r (by decide)]; exact gq_k.2
  obtain ⟨l19, l154, l167, l170, l171, l172, l173, l174, l175⟩ := zQ_k (N := gq_ N t) (T := M 5 2) (t := t)
  rw [gq_6 (by decide)] at l19
  rw [gq_r (by decide) (by decide) (by decide)] at l154 l167
  have hE : ER b (Fg_ F M N t) (zX_ (gd1_ M N t) t) (zQ_ (gq_ N t) (M 5 2) t) a 0 := ER_1 (ER_gd (t := t) s2 hb (by (clear hb ht hta hlt h6 hf s1 s2 s3 g1 g2 g3 g4 g5 ty tp gl sr c1 c2 c3 c4 c5 c6 c7 c8 c9 c10 hF e52 x xo x5 x1 x1i k52 k58 k124 k126 k123 k128 k125 q qo q6 q58 q190 l19 l154 l170 l171 l172 l173 l174 l175; lia)) (by (clear hb ht hta hlt h6 s1 s2 s3 g1 g2 g3 g4 g5 ty tp gl sr c1 c2 c3 c4 c5 c6 c7 c8 c9 c10 hpl hp15 hF e52 x xo x5 x1 x1i k52 k58 k124 k126 k123 k128 k125 q qo q6 q58 q190 q190k l19 l154 l167 l170 l171 l172 l173 l174 l175; lia))) (by rw [zX_r (by decide)]) (by rw [zX_5 (by decide)]) (fun i _ => by rw [x1]) (fun i hi => q6 i (fun e => by rw [e] at hi; revert hi; decide) (fun e => by rw [e] at hi; revert hi; decide))
  have f7 := gd1_7 (M := M) (N := N) (t := t)
  rw [← x1] at f7
  clear x1
  generalize eM : zX_ (gd1_ M N t) t = M9 at *
  generalize eN : zQ_ (gq_ N t) (M 5 2) t = N9 at *
  have e70 := x 70 (by decide)
  have e71 := x 71 (by decide)
  have e151 := q 151 (by decide)
  have nm : ∀ u, nm9_ M u → nm9_ M9 u := fun u hu => nm9_r hu e70
  have hTk : Tks M9 N9 := Tks_r s1 (fun r hr => x r (fun e => by simp only [List.mem_cons, List.not_mem_nil, or_false] at hr e; (clear hb ht hta hlt h6 hf s1 s2 s3 g1 g2 g3 g4 g5 ty tp gl sr c1 c2 c3 c4 c5 c6 c7 c8 c9 c10 hpl hp15 hF e52 eM x xo x5 x1i k52 k58 k124 k126 k123 k128 k125 f7 eN q qo q6 q58 q190 q190k l19 l154 l167 l170 l171 l172 l173 l174 l175 hE e70 e71 e151 nm; omega))) (fun r hr => q r (fun e => by simp only [List.mem_cons, List.not_mem_nil, or_false] at hr e; (clear hb ht hta hlt h6 hf s1 s2 s3 g1 g2 g3 g4 g5 ty tp gl sr c1 c2 c3 c4 c5 c6 c7 c8 c9 c10 hpl hp15 hF e52 eM x xo x5 x1i k52 k58 k124 k126 k123 k128 k125 f7 eN q qo q6 q58 q190 q190k l19 l154 l167 l170 l171 l172 l173 l174 l175 hE e70 e71 e151 nm; omega)))
  have glm : ∀ u, GLM M9 u ↔ GLM M u ∨ u = t := fun u => by
    unfold GLM
    rw [x5 0 (by decide), x5 1 (by decide), x 56 (by decide), x 57 (by decide), k52]
    constructor
    · rintro (h | h | ⟨k, hk, e⟩)
      · exact .inl (.inl h)
      · exact .inl (.inr (.inl h))
      · by_cases c : k = M 5 2
        · rw [c, k58] at e; exact .inr e.symm
        · rw [xo 58 k (by decide) (by decide) c] at e
          exact .inl (.inr (.inr ⟨k, by (clear hb ht hta hlt h6 hf s1 s2 s3 g1 g2 g3 g4 g5 ty tp gl sr c1 c2 c3 c4 c5 c6 c7 c8 c9 c10 hpl hp15 hF eM x xo x5 x1i k58 k124 k126 k123 k128 k125 f7 eN q qo q6 q58 q190 q190k l19 l154 l167 l170 l171 l172 l173 l174 l175 hE e70 e71 e151 nm hTk e; omega), e⟩))
    · rintro ((h | h | ⟨k, hk, e⟩) | h)
      · exact .inl h
      · exact .inr (.inl h)
      · exact .inr (.inr ⟨k, by (clear hb ht hta hlt h6 hf s1 s2 s3 g1 g2 g3 g4 g5 ty tp gl sr c1 c2 c3 c4 c5 c6 c7 c8 c9 c10 hpl hp15 hF eM x xo x5 x1i k58 k124 k126 k123 k128 k125 f7 eN q qo q6 q58 q190 q190k l19 l154 l167 l170 l171 l172 l173 l174 l175 hE e70 e71 e151 nm hTk e; lia), by rw [xo 58 k (by decide) (by decide) (by (clear hb ht hta hlt h6 hf s1 s2 s3 g1 g2 g3 g4 g5 ty tp gl sr c1 c2 c3 c4 c5 c6 c7 c8 c9 c10 hpl hp15 hF eM x xo x5 x1i k58 k124 k126 k123 k128 k125 f7 eN q qo q6 q58 q190 q190k l19 l154 l167 l170 l171 l172 l173 l174 l175 hE e70 e71 e151 nm hTk e; omega))]; exact e⟩)
      · exact .inr (.inr ⟨M 5 2, by have := g2.1.1.1; (clear hb ht hta hlt hf s1 s2 s3 g1 g2 g3 g4 g5 ty tp gl sr c1 c2 c3 c4 c5 c6 c7 c8 c9 c10 hpl hp15 hF eM x xo x5 x1i k58 k124 k126 k123 k128 k125 f7 eN q qo q6 q58 q190 q190k l19 l154 l167 l170 l171 l172 l173 l174 l175 hE e70 e71 e151 nm hTk h; lia), by rw [k58]; exact h.symm⟩)
  obtain ⟨⟨a1, a1'⟩, a2⟩ := g1
  obtain ⟨⟨a3, a3'⟩, a4, a5⟩ := g2
  obtain ⟨a6, a6'⟩ := g3
  obtain ⟨⟨u1, u2⟩, u3, u4, u5⟩ := g5
  refine ⟨⟨hTk, hE, by rw [x1i 2 (by decide) (by decide) (by decide)]; exact s3⟩, ⟨?_, ?_, ?_, fun hb1 => by (clear ht hta hlt h6 hf s1 s2 s3 g4 ty tp gl sr c1 c2 c3 c4 c5 c6 c7 c8 c9 c10 hpl hp15 hF e52 eM x xo x5 x1i k52 k58 k124 k126 k123 k128 k125 f7 eN q qo q6 q58 q190 q190k l19 l154 l167 l170 l171 l172 l173 l174 l175 hE e70 e71 e151 nm hTk glm a2 a1 a1' a3 a3' a4 a5 a6 a6' u1 u2 u3 u4 u5; lia), ?_⟩, fun T T0 T1 => ?_, ⟨fun i j i0 ij j1 => ?_, fun _ u hu => ?_⟩, ⟨⟨by rw [q6 75 (by decide) (by decide)]; exact c1, by rw [q6 104 (by decide) (by decide)]; exact c2, by rw [x5 3 (by decide)]; exact c3⟩, by rw [q6 76 (by decide) (by decide)]; exact c4, by (clear hb ht hta hlt h6 s1 s2 s3 g4 ty tp gl sr c1 c2 c3 c4 c5 c6 c7 c8 c9 c10 hpl hp15 hF e52 eM x xo x5 x1i k52 k58 k124 k126 k123 k128 k125 eN q qo q6 q58 q190 q190k l19 l154 l167 l170 l171 l172 l173 l174 l175 hE e70 e71 e151 nm hTk glm a2 a1 a1' a3 a3' a4 a5 a6 a6' u1 u2 u3 u4 u5; omega), by rw [q6 90 (by decide) (by decide)]; exact c6, by rw [x1i 21 (by decide) (by decide) (by decide), x1i 23 (by decide) (by decide) (by decide)]; exact c7, by rw [x5 4 (by decide)]; exact c8, by rw [q6 62 (by decide) (by decide)]; exact c9, by rw [q6 63 (by decide) (by decide)]; exact c10⟩, fun hb1 => by (clear ht hta hlt h6 hf s1 s2 s3 g4 ty tp gl sr c1 c2 c3 c4 c5 c6 c7 c8 c9 c10 hpl hp15 hF e52 eM x xo x5 x1i k52 k58 k124 k126 k123 k128 k125 f7 eN q qo q6 q58 q190 q190k l19 l154 l167 l170 l171 l172 l173 l174 l175 hE e70 e71 e151 nm hTk glm a2 a1 a1' a3 a3' a4 a5 a6 a6' u1 u2 u3 u4 u5; lia)⟩
  · unfold SGT sgl9
    rw [x5 0 (by decide), q6 17 (by decide) (by decide), x 56 (by decide), q 152 (by decide), e151, x 112 (by decide), x 113 (by decide), q 156 (by decide), q 157 (by decide)]
    exact ⟨⟨a1, fun k k0 k1 => ⟨nm _ (a1' k k0 k1).1, (a1' k k0 k1).2⟩⟩, a2⟩
  · unfold PRT tpl9
    rw [k52, l19, e151, q 182 (by decide), q 183 (by decide)]
    refine ⟨⟨by (clear hb ht hta hlt hf s1 s2 s3 g4 ty tp gl sr c1 c2 c3 c4 c5 c6 c7 c8 c9 c10 hpl hp15 hF eM x xo x5 x1i k58 k124 k126 k123 k128 k125 f7 eN q qo q6 q58 q190 q190k l19 l154 l167 l170 l171 l172 l173 l174 l175 hE e70 e71 e151 nm hTk glm a2 a1 a1' a3' a4 a5 a6 a6' u1 u2 u3 u4 u5; lia), fun k k0 k1 => ?_⟩, fun k k0 k1 => ?_, fun hb1 => by omega⟩
    · by_cases c : k = M 5 2
      · rw [c, k58, l154]; exact ⟨nm _ ht, rfl⟩
      · rw [xo 58 k (by decide) (by decide) c, qo 154 k (by decide) (by decide) (by decide) c]
        have z := a3' k k0 (by (clear hb ht hta hlt h6 hf s1 s2 s3 g4 ty tp gl sr c1 c2 c3 c4 c5 c6 c7 c8 c9 c10 hpl hp15 hF eM x xo x5 x1i k58 k124 k126 k123 k128 k125 f7 eN q qo q6 q58 q190 q190k l19 l154 l167 l170 l171 l172 l173 l174 l175 hE e70 e71 e151 nm hTk glm a2 a1 a1' a3' a4 a5 a6 a6' u1 u2 u3 u4 u5 k0; omega))
        exact ⟨nm _ z.1, z.2⟩
    · by_cases c : k = M 5 2
      · rw [c, l170]; exact ⟨by omega, by omega, fun i i0 i1 => by (clear hb ht hta hlt h6 hf s1 s2 s3 g4 ty tp gl sr c1 c2 c3 c4 c5 c6 c7 c8 c9 c10 hpl hp15 hF e52 eM x xo x5 x1i k52 k58 k124 k126 k123 k128 k125 f7 eN q qo q6 q58 q190 q190k l19 l154 l167 l170 l171 l172 l173 l174 l175 hE e70 e71 e151 nm hTk glm a2 a1 a1' a3 a3' a4 a5 a6 a6' u1 u2 u3 u4 u5 k0 k1 c; omega)⟩
      · rw [qo 170 k (by decide) (by decide) (by decide) c]; exact a4 k k0 (by omega)
  · unfold rtl9
    rw [x5 1 (by decide), q6 18 (by decide) (by decide), x 57 (by decide), q 153 (by decide), e151]
    exact ⟨a6, fun k k0 k1 => ⟨nm _ (a6' k k0 k1).1, (a6' k k0 k1).2⟩⟩
  · unfold GLT
    rw [q58, x5 0 (by decide), x5 1 (by decide), k52, e151, e71, q 155 (by decide), x 56 (by decide)]
    refine ⟨by (clear hb ht hta hlt h6 hf s1 s2 s3 g4 ty tp gl sr c1 c2 c3 c4 c5 c6 c7 c8 c9 c10 hpl hp15 hF eM x xo x5 x1i k58 k124 k126 k123 k128 k125 f7 eN q qo q6 q58 q190 q190k l19 l154 l167 l170 l171 l172 l173 l174 l175 hE e70 e71 e151 nm hTk glm a2 a1' a3' a4 a5 a6' u3 u4 u5; omega), fun i i0 i1 => ?_, fun u v hu hv he hl => ?_, u5.1, fun u hu => ?_⟩
    · by_cases c : i = N 6 58
      · rw [c, q190k.1, q190k.2]
        exact ⟨t, ⟨nm _ ht, (glm t).2 (.inr rfl)⟩, rfl, hp15⟩
      · rw [q190 190 i (.inl rfl) c, q190 191 i (.inr rfl) c]
        obtain ⟨u, hu, w⟩ := u3 i i0 (by (clear hb ht hta hlt h6 hf s1 s2 s3 g4 ty tp gl sr c1 c2 c3 c4 c5 c6 c7 c8 c9 c10 hpl hp15 hF eM x xo x5 x1i k58 k124 k126 k123 k128 k125 f7 eN q qo q6 q58 q190 q190k l19 l154 l167 l170 l171 l172 l173 l174 l175 hE e70 e71 e151 nm hTk glm a2 a1' a3' a4 a5 a6' u1 u3 u4 u5 i0; omega))
        exact ⟨u, ⟨nm _ hu.1, (glm u).2 (.inl hu.2)⟩, w⟩
    · rcases (glm u).1 hu with hu | hu
      · rcases (glm v).1 hv with hv | hv
        · have := u4 u v hu hv he hl; (clear hb ht hta hlt h6 hf s1 s2 s3 g4 ty tp gl sr c1 c2 c3 c4 c5 c6 c7 c8 c9 c10 hpl hp15 e52 eM x xo x5 x1i k52 k58 k124 k126 k123 k128 k125 f7 eN q qo q6 q58 q190 q190k l19 l154 l167 l170 l171 l172 l173 l174 l175 hE e70 e71 e151 nm hTk glm a2 a1 a1' a3 a3' a4 a5 a6 a6' u1 u2 u3 u4 u5 he hl hu hv; lia)
        · rw [hv] at he ⊢
          have told := GLM_told ⟨a1, a1'⟩ ⟨a6, a6'⟩ ⟨a3, a3'⟩ hu he
          unfold Fg_
          rw [if_neg told]; (clear hb ht hta hlt h6 hf s1 s2 s3 g4 ty tp gl sr c1 c2 c3 c4 c5 c6 c7 c8 c9 c10 hpl hF e52 eM x xo x5 x1i k52 k58 k124 k126 k123 k128 k125 f7 eN q qo q6 q58 q190 l19 l154 l170 l171 l172 l173 l174 l175 hE e70 e71 e151 nm hTk glm a2 a1 a1' a3 a3' a4 a5 a6 a6' u1 u2 u3 u4 u5 he hl hu hv told; lia)
      · rcases (glm v).1 hv with hv | hv
        · have := hlt v hv; (clear hb ht hta hlt h6 hf s1 s2 s3 g4 ty tp gl sr c1 c2 c3 c4 c5 c6 c7 c8 c9 c10 hpl hp15 hF e52 eM x xo x5 x1i k52 k124 k126 k123 k128 k125 f7 eN q qo q6 q58 q190 q190k l19 l154 l167 l170 l171 l172 l173 l174 l175 hE e70 e71 e151 nm hTk glm a2 a1 a1' a3 a3' a4 a5 a6 a6' u1 u2 u3 u4 u5 he hv; omega)
        · (clear hb ht hta hlt h6 hf s1 s2 s3 g4 ty tp gl sr c1 c2 c3 c4 c5 c6 c7 c8 c9 c10 hpl hp15 hF e52 eM x xo x5 x1i k52 k124 k126 k123 k128 k125 f7 eN q qo q6 q58 q190 q190k l19 l154 l167 l170 l171 l172 l173 l174 l175 hE e70 e71 e151 nm hTk glm a2 a1 a1' a3 a3' a4 a5 a6 a6' u1 u2 u3 u4 u5 he; omega)
    · rcases (glm u).1 hu with hu | hu
      · obtain ⟨i, hi, w⟩ := u5.2 u hu
        exact ⟨i, by (clear hb ht hta hlt h6 hf s1 s2 s3 g4 ty tp gl sr c1 c2 c3 c4 c5 c6 c7 c8 c9 c10 hpl hp15 hF eM x xo x5 x1i k58 k124 k126 k123 k128 k125 f7 eN q qo q6 q58 q190 q190k l19 l154 l167 l170 l171 l172 l173 l174 l175 hE e70 e71 e151 nm hTk glm a2 a1' a3' a4 a5 a6' u1 u3 u4 u5 hu w; omega), by rw [q190 190 i (.inl rfl) (by (clear hb ht hta hlt h6 hf s1 s2 s3 g4 ty tp gl sr c1 c2 c3 c4 c5 c6 c7 c8 c9 c10 hpl hp15 hF eM x xo x5 x1i k58 k124 k126 k123 k128 k125 f7 eN q qo q6 q58 q190 q190k l19 l154 l167 l170 l171 l172 l173 l174 l175 hE e70 e71 e151 nm hTk glm a2 a1' a3' a4 a5 a6' u1 u3 u4 u5 hu w; omega)), q190 191 i (.inr rfl) (by (clear hb ht hta hlt h6 hf s1 s2 s3 g4 ty tp gl sr c1 c2 c3 c4 c5 c6 c7 c8 c9 c10 hpl hp15 hF eM x xo x5 x1i k58 k124 k126 k123 k128 k125 f7 eN q qo q6 q58 q190 q190k l19 l154 l167 l170 l171 l172 l173 l174 l175 hE e70 e71 e151 nm hTk glm a2 a1' a3' a4 a5 a6' u1 u3 u4 u5 hu w; omega))]; exact w⟩
      · rw [hu]; exact ⟨N 6 58, by (clear hb ht hta hlt h6 hf s1 s2 s3 g4 ty tp gl sr c1 c2 c3 c4 c5 c6 c7 c8 c9 c10 hpl hp15 hF eM x xo x5 x1i k58 k124 k126 k123 k128 k125 f7 eN q qo q6 q58 q190 q190k l19 l154 l167 l170 l171 l172 l173 l174 l175 hE e70 e71 e151 nm hTk glm a2 a1' a3' a4 a5 a6' u3 u4 u5 hu; omega), by rw [q190k.1, q190k.2]; exact ⟨rfl, hp15⟩⟩
  · rw [k52] at T1
    by_cases c : T = M 5 2
    · rw [c]
      refine ⟨⟨by rw [k124, l171]; decide, by rw [k126, l173]; decide, fun k k0 k1 => by rw [k124] at k1; omega, fun k k0 k1 => by rw [k126] at k1; omega⟩, ⟨by rw [l172, k125]; exact ⟨rfl, by decide, by decide, fun k k0 k1 _ => by rw [k124] at k1 ⊢; rw [k125, if_pos (by (clear hb ht hta hlt h6 hf s1 s2 s3 g4 ty tp gl sr c1 c2 c3 c4 c5 c6 c7 c8 c9 c10 hpl hp15 hF e52 eM x xo x5 x1i k52 k58 k124 k126 k123 k128 k125 f7 eN q qo q6 q58 q190 q190k l19 l154 l167 l170 l171 l172 l173 l174 l175 hE e70 e71 e151 nm hTk glm a2 a1 a1' a3 a3' a4 a5 a6 a6' u1 u2 u3 u4 u5 T0 T1 c; omega))]; (clear hb ht hta hlt h6 hf s1 s2 s3 g4 ty tp gl sr c1 c2 c3 c4 c5 c6 c7 c8 c9 c10 hpl hp15 hF e52 eM x xo x5 x1i k52 k58 k124 k126 k123 k128 k125 f7 eN q qo q6 q58 q190 q190k l19 l154 l167 l170 l171 l172 l173 l174 l175 hE e70 e71 e151 nm hTk glm a2 a1 a1' a3 a3' a4 a5 a6 a6' u1 u2 u3 u4 u5 T0 T1 c; omega), fun i k i0 i1 k1 => by rw [k124] at k1; (clear hb ht hta hlt h6 hf s1 s2 s3 g4 ty tp gl sr c1 c2 c3 c4 c5 c6 c7 c8 c9 c10 hpl hp15 hF e52 eM x xo x5 x1i k52 k58 k124 k126 k123 k128 k125 f7 eN q qo q6 q58 q190 q190k l19 l154 l167 l170 l171 l172 l173 l174 l175 hE e70 e71 e151 nm hTk glm a2 a1 a1' a3 a3' a4 a5 a6 a6' u1 u2 u3 u4 u5 T0 T1 c; omega)⟩, fun k k0 k1 => by rw [k124] at k1; omega, fun k k0 k1 => by rw [k126] at k1; omega, fun u v hu => ?_⟩, ⟨by rw [k123, l174]; decide, fun k k0 k1 => by rw [k123] at k1; omega⟩, fun k k0 k1 => by rw [k123] at k1; omega, ⟨⟨by rw [k128, l175]; decide, fun k k0 k1 => by rw [k128] at k1; omega⟩, fun k k0 k1 => by rw [k128] at k1; omega⟩, by rw [l167, k58, e71]; exact hp15⟩
      unfold DCL at hu
      rw [k124, k126] at hu
      rcases hu with ⟨k, hk, _⟩ | ⟨k, hk, _⟩ <;> omega
    · refine TYP_c (ty T T0 (by omega)) ?_ e70 e71 e151 hF (Int.le_refl _)
      have y : ∀ r : Nat, r ≠ 5 → r ≠ 1 → M9 r T = M r T := fun r h h1 => xo r T h h1 c
      have w : ∀ r : Nat, r ≠ 6 → r ≠ 190 → r ≠ 191 → N9 r T = N r T := fun r h h1 h2 => qo r T h h1 h2 c
      unfold ROW
      rw [y 58 (by decide) (by decide), y 120 (by decide) (by decide), y 121 (by decide) (by decide), y 123 (by decide) (by decide), y 124 (by decide) (by decide), y 125 (by decide) (by decide), y 126 (by decide) (by decide), y 128 (by decide) (by decide), w 167 (by decide) (by decide) (by decide), w 168 (by decide) (by decide) (by decide), w 169 (by decide) (by decide) (by decide), w 171 (by decide) (by decide) (by decide), w 172 (by decide) (by decide) (by decide), w 173 (by decide) (by decide) (by decide), w 174 (by decide) (by decide) (by decide), w 175 (by decide) (by decide) (by decide), x 60 (by decide), x 130 (by decide), x 131 (by decide), x 132 (by decide), x 61 (by decide), x 59 (by decide), x 62 (by decide), q 177 (by decide), q 181 (by decide), q 182 (by decide), q 183 (by decide), q 184 (by decide), q 178 (by decide), q 185 (by decide), q 179 (by decide), q 186 (by decide), q 180 (by decide), q 187 (by decide)]
      exact ROW_rf
  · rw [k52] at j1
    have z := xo 58 i (by decide) (by decide) (by (clear hb ht hta hlt h6 hf s1 s2 s3 g4 ty tp gl sr c1 c2 c3 c4 c5 c6 c7 c8 c9 c10 hpl hp15 hF eM x xo x5 x1i k58 k124 k126 k123 k128 k125 f7 eN q qo q6 q58 q190 q190k l19 l154 l167 l170 l171 l172 l173 l174 l175 hE e70 e71 e151 nm hTk glm a2 a1 a1' a3' a4 a5 a6 a6' u1 u2 u3 u4 u5 i0; lia))
    rw [z]
    by_cases c : j = M 5 2
    · rw [c, k58]; exact hlt _ (.inr (.inr ⟨i, by (clear hb ht hta hlt h6 hf s1 s2 s3 g4 ty tp gl sr c1 c2 c3 c4 c5 c6 c7 c8 c9 c10 hpl hp15 hF eM x xo x5 x1i k58 k124 k126 k123 k128 k125 f7 eN q qo q6 q58 q190 q190k l19 l154 l167 l170 l171 l172 l173 l174 l175 hE e70 e71 e151 nm hTk glm a2 a1 a1' a3' a4 a5 a6 a6' u1 u2 u3 u4 u5 j1 z; omega), rfl⟩))
    · rw [xo 58 j (by decide) (by decide) c]; exact tp i j i0 ij (by (clear hb ht hta hlt h6 hf s1 s2 s3 g4 ty tp gl sr c1 c2 c3 c4 c5 c6 c7 c8 c9 c10 hpl hp15 hF eM x xo x5 x1i k58 k124 k126 k123 k128 k125 f7 eN q qo q6 q58 q190 q190k l19 l154 l167 l170 l171 l172 l173 l174 l175 hE e70 e71 e151 nm hTk glm a2 a1 a1' a3' a4 a5 a6 a6' u1 u2 u3 u4 u5 i0 ij z; lia))
  · rcases (glm u).1 hu with h | h
    · exact gl hb u h
    · (clear hb ht hlt h6 hf s1 s2 s3 g4 ty tp gl sr c1 c2 c3 c4 c5 c6 c7 c8 c9 c10 hpl hp15 hF e52 eM x xo x5 x1i k52 k124 k126 k123 k128 k125 f7 eN q qo q6 q58 q190 q190k l19 l154 l167 l170 l171 l172 l173 l174 l175 hE e70 e71 e151 nm hTk glm a2 a1 a1' a3 a3' a4 a5 a6 a6' u1 u2 u3 u4 u5 hu; lia)
end TYa
end T254_ta
section T255_sg
/-! the system's relation: steps that change no table -/
section SYg
variable {b F F1 : Int} {M N M1 N1 N' : mm_} {a a1 T t ns nr np : Int}
theorem SY_1 [Inhabited gh_] (h : SY0 b F M N a) (hE : ER b F M1 N1 a1 0) (ha : a ≤ a1) (hx : ∀ r : Nat, r ≠ 1 → M1 r = M r) (h1 : ∀ i : Int, i ∈ [2, 21, 23] → M1 1 i = M 1 i) (h7 : M1 1 7 + 8 * (1201 - a1) ≤ 1000000000 - (gg_ : Int)) (hq : ∀ r : Nat, r ≠ 6 → N1 r = N r) (h6 : ∀ i : Int, i ∈ [17, 18, 19, 58, 62, 63, 75, 76, 90, 104] → N1 6 i = N 6 i) : SY0 b F M1 N1 a1 := by
  obtain ⟨⟨s1, s2, s3⟩, ⟨g1, g2, g3, g4, g5⟩, ty, ⟨tp, gl⟩, ⟨⟨c1, c2, c3⟩, c4, c5, c6, c7, c8, c9, c10⟩, sr⟩ := h
  have e5 := hx 5 (by decide)
  have e70 := hx 70 (by decide)
  have e71 := hx 71 (by decide)
  have e151 := hq 151 (by decide)
  have nm : ∀ u, nm9_ M u → nm9_ M1 u := fun u hu => nm9_r hu e70
  have tpe : tpl N1 = tpl N := by funext y; unfold tpl; rw [h6 19 (by decide), hq 154 (by decide)]
  have glm : ∀ u, GLM M1 u ↔ GLM M u := fun u => by
    unfold GLM
    rw [e5, hx 56 (by decide), hx 57 (by decide), hx 58 (by decide)]
  obtain ⟨⟨a1', a1''⟩, a2⟩ := g1
  obtain ⟨⟨a3, a3'⟩, a4, a5⟩ := g2
  obtain ⟨a6, a6'⟩ := g3
  obtain ⟨u1, u3, u4, u5⟩ := g5
  refine ⟨⟨Tks_r s1 (fun r hr => hx r (fun e => by rw [e] at hr; revert hr; decide)) (fun r hr => hq r (fun e => by rw [e] at hr; revert hr; decide)), hE, by rw [h1 2 (by decide)]; exact s3⟩, ⟨?_, ?_, ?_, fun hb => ?_, ?_⟩, fun T T0 T1 => ?_, ⟨by rw [e5, hx 58 (by decide)]; exact tp, fun hb u hu => by have := gl hb u ((glm u).1 hu); (clear hE hx h1 h7 hq h6 s1 s2 s3 g4 ty tp gl sr c1 c2 c3 c4 c5 c6 c7 c8 c9 c10 e5 e70 e71 e151 nm tpe glm a2 a1' a1'' a3 a3' a4 a5 a6 a6' u1 u3 u4 u5 hb hu; omega)⟩, ⟨⟨by rw [h6 75 (by decide)]; omega, by rw [h6 104 (by decide)]; (clear hE hx h1 h7 hq h6 s1 s2 s3 g4 ty tp gl sr c1 c3 c4 c5 c6 c7 c8 c9 c10 e5 e70 e71 e151 nm tpe glm a2 a1' a1'' a3 a3' a4 a5 a6 a6' u1 u3 u4 u5; lia), by rw [e5]; (clear hE hx h1 h7 hq h6 s1 s2 s3 g4 ty tp gl sr c1 c2 c4 c5 c6 c7 c8 c9 c10 e5 e70 e71 e151 nm tpe glm a2 a1' a1'' a3 a3' a4 a5 a6 a6' u1 u3 u4 u5; lia)⟩, by rw [h6 76 (by decide)]; (clear hE hx h1 h7 hq h6 s1 s2 s3 g4 ty tp gl sr c1 c2 c3 c5 c6 c7 c8 c9 c10 e5 e70 e71 e151 nm tpe glm a2 a1' a1'' a3 a3' a4 a5 a6 a6' u1 u3 u4 u5; lia), h7, by rw [h6 90 (by decide)]; omega, by rw [h1 21 (by decide), h1 23 (by decide)]; exact c7, by rw [e5]; (clear hE hx h1 h7 hq h6 s1 s2 s3 g4 ty tp gl sr c1 c2 c3 c4 c5 c6 c7 c9 c10 e5 e70 e71 e151 nm tpe glm a2 a1' a1'' a3 a3' a4 a5 a6 a6' u1 u3 u4 u5; lia), by rw [h6 62 (by decide)]; (clear hE hx h1 h7 hq h6 s1 s2 s3 g4 ty tp gl sr c1 c2 c3 c4 c5 c6 c7 c8 c10 e5 e70 e71 e151 nm tpe glm a2 a1' a1'' a3 a3' a4 a5 a6 a6' u1 u3 u4 u5; lia), by rw [h6 63 (by decide)]; omega⟩, fun hb => ?_⟩
  · unfold SGT sgl9
    rw [e5, h6 17 (by decide), hx 56 (by decide), hq 152 (by decide), e151, hx 112 (by decide), hx 113 (by decide), hq 156 (by decide), hq 157 (by decide)]
    exact ⟨⟨a1', fun k k0 k1 => ⟨nm _ (a1'' k k0 k1).1, (a1'' k k0 k1).2⟩⟩, a2⟩
  · unfold PRT tpl9
    rw [e5, h6 19 (by decide), hx 58 (by decide), hq 154 (by decide), e151, hq 170 (by decide), hq 182 (by decide), hq 183 (by decide), hx 122 (by decide), hx 130 (by decide)]
    exact ⟨⟨a3, fun k k0 k1 => ⟨nm _ (a3' k k0 k1).1, (a3' k k0 k1).2⟩⟩, a4, a5⟩
  · unfold rtl9
    rw [e5, h6 18 (by decide), hx 57 (by decide), hq 153 (by decide), e151]
    exact ⟨a6, fun k k0 k1 => ⟨nm _ (a6' k k0 k1).1, (a6' k k0 k1).2⟩⟩
  · unfold RT1
    rw [e5, hx 114 (by decide), hx 119 (by decide), hq 158 (by decide), hq 164 (by decide), tpe]
    exact g4 hb
  · unfold GLT
    rw [h6 58 (by decide), e5, hq 190 (by decide), hq 191 (by decide), e151, e71, hq 155 (by decide), hx 56 (by decide)]
    refine ⟨u1, fun i i0 i1 => ?_, fun u v hu hv => u4 u v ((glm u).1 hu) ((glm v).1 hv), u5.1, fun u hu => u5.2 u ((glm u).1 hu)⟩
    obtain ⟨u, hu, w⟩ := u3 i i0 i1
    exact ⟨u, ⟨nm _ hu.1, (glm u).2 hu.2⟩, w⟩
  · rw [e5] at T1
    exact TYP_c (ty T T0 T1) (ROW_e (fun r hr => hx r (fun e => by rw [e] at hr; revert hr; decide)) (fun r hr => hq r (fun e => by rw [e] at hr; revert hr; decide))) e70 e71 e151 (Int.le_refl _) ha
  · obtain ⟨⟨xs, hs⟩, hl⟩ := sr hb
    refine ⟨⟨xs, SRW_c hs (by rw [e5]) (hx _ (by decide)) (hx _ (by decide)) (hx _ (by decide)) (hx _ (by decide)) (hx _ (by decide)) (h6 _ (by decide)) (h6 _ (by decide)) (hq _ (by decide)) (hq _ (by decide)) (hq _ (by decide)) (hq _ (by decide)) (hq _ (by decide)) (hq _ (by decide))⟩, ?_⟩
    rw [h6 62 (by decide), h6 63 (by decide), hq 199 (by decide)]; exact hl
theorem SY_go [Inhabited gh_] (h : SY0 b F M N a) (hE : ER b F (nX_ M) (nx_ N) (a + 1) 0) : SY0 b F (nX_ M) (nx_ N) (a + 1) := by
  have c := h.2.2.2.2.1.2.2.1
  refine SY_1 h hE (by omega) (fun r hr => nX_ne hr) (fun i hi => nX_1 (fun e => by rw [e] at hi; revert hi; decide)) ?_ (fun r hr => nx_ne hr) (fun i hi => nx_6 (fun e => by rw [e] at hi; revert hi; decide))
  rw [nX_1 (by decide)]; omega
theorem SY_gw [Inhabited gh_] (h : SY0 b F M N a) (hb : b = 1) (ht : nm9_ M t) (hg : GLM M t) (hw : GWI N t N') : SY0 b F M N' a := by
  have hT := h.1.1
  have hp := (hT t ht.1).2.2.2.1
  have pt : N 150 t = M 71 t := (hT t ht.1).2.1.symm
  have hE : ER b F M N' a 0 := by
    rcases hw with e | ⟨e, m⟩
    · rw [e]; exact h.1.2.1
    · rw [e]; exact ER_nq h.1.2.1 hb (by decide) (by omega) (GWM_F hT h.2.1.2.2.2.2 ht hg m)
  exact SY_1 h hE (Int.le_refl _) (fun _ _ => rfl) (fun _ _ => rfl) h.2.2.2.2.1.2.2.1 (fun r hr => GWI_r hw hr) (fun i hi => GWI_6 hw (fun e => by rw [e] at hi; revert hi; decide) (fun e => by rw [e] at hi; revert hi; decide))
theorem SYS_go [Inhabited gh_] (h : SYS b F M N a ns nr np) (hE : ER b F (nX_ M) (nx_ N) (a + 1) 0) : SYS b F (nX_ M) (nx_ N) (a + 1) ns nr np := by
  obtain ⟨h1, h2, h3⟩ := h
  refine ⟨SY_go h1 hE, by rw [nX_1 (by decide), nX_1 (by decide), nX_1 (by decide), nX_ne (by decide)]; exact h2, fun T T0 T1 => ?_⟩
  rw [nX_ne (by decide)] at T1
  exact CNT_c (h3 T T0 T1) (ROW_e (fun r hr => nX_ne (fun e => by rw [e] at hr; revert hr; decide)) (fun r hr => nx_ne (fun e => by rw [e] at hr; revert hr; decide)))
end SYg
end T255_sg
section T256_ct
/-! a process's counts (X 126 V 158 | Q 252 V 131) -/
def ctS (κ ν : Int → Int) (a : Int) : Option Int := (cnS κ ν 200 a).bind fun a1 => (tS κ 115 a1).bind fun a2 => cnS κ ν 200 a2
def CTF (b T : Int) (M N M1 N1 : mm_) : Prop := (∀ r : Nat, r ≠ 1 → r ≠ 120 → r ≠ 121 → M1 r = M r) ∧ (∀ i, i ≠ T → M1 120 i = M 120 i ∧ M1 121 i = M 121 i) ∧ (∀ i : Int, i ≠ 3 → i ≠ 4 → i ≠ 5 → i ≠ 7 → M1 1 i = M 1 i) ∧ (∀ r : Nat, r ≠ 6 → r ≠ 168 → r ≠ 169 → N1 r = N r) ∧ (∀ i, i ≠ T → N1 168 i = N 168 i ∧ N1 169 i = N 169 i) ∧ (∀ i : Int, i ≠ 12 → i ≠ 13 → i ≠ 14 → N1 6 i = N 6 i) ∧ CNT M1 N1 T ∧ (b = 1 → N1 6 13 = 0 → N 6 13 = 0)
def q131 (dq : Nat) (x1 x2 : Int) (N : mm_) (G : mm_ → Prop) (Qt : qt_) : Prop := ∀ V : vv_, Cl_ wd0 (Tr_ wd0 pg0 (dq + 18)) V (rv_ G) Qt m_252 → Wk_ V → V 131 [rr 6, ii x1, ii x2, none, none, none, none] [] N
/-- X from its counts on -/
def z158 (V : vv_) (Qt : qt_) (x1 T : Int) (M : mm_) : Prop := Tr_ wd0 pg0 130 124 [.inr (.inr 1), .inl 200] M (ri_ fun v1 M1 =>
  (0 ≤ T ∧ T < 6) ∧
   Tr_ wd0 pg0 130 108 [.inr (.inr 1), .inl 115] (up_ M1 120 T v1) (rv_ fun M2 =>
   M2 1 2 = 5 ∧
    Tr_ wd0 pg0 130 124 [.inr (.inr 1), .inl 200] M2 (ri_ fun v2 M3 =>
    (0 ≤ M2 1 18 ∧ M2 1 18 < 6) ∧
     (bl_ (M3 1 8) → (if M3 1 8 = 0 then
     V 281 [rr 1, ii x1, ii (M2 1 3), none, none, none, none] [] (up_ M3 121 (M2 1 18) v2)
    else
     M3 1 2 = 5 ∧
      (0 ≤ M3 1 18 ∧ M3 1 18 < 6) ∧
      M3 1 2 = 5 ∧
      (0 ≤ M3 1 18 ∧ M3 1 18 < 6) ∧
      (if (up_ M3 121 (M2 1 18) v2) 121 (M3 1 18) < M3 120 (M3 1 18) then
      Tr_ wd0 pg0 130 116 [.inr (.inr 1), .inl 6, .inl (M2 1 3)] (up_ M3 121 (M2 1 18) v2) (rv_ fun M4 =>
       V 281 [rr 1, ii x1, ii (M2 1 3), none, none, none, none] [] M4) Qt
     else
      V 281 [rr 1, ii x1, ii (M2 1 3), none, none, none, none] [] (up_ M3 121 (M2 1 18) v2))))) Qt) Qt) Qt
section CTw
variable {dq : Nat} {b F : Int} {x2 x3 x4 x5 c T y1 y2 : Int} {Kv G : mm_ → Prop} {Qt Qtq : qt_} {V V' : vv_} {M N Mx' M' N' : mm_} {a a' : Int}
theorem q180_s [Inhabited gh_] (hx : 0 ≤ T ∧ T < 6) (hV : Cl_ wd0 (Tr_ wd0 pg0 (dq + 18)) V' (rv_ G) Qtq m_252) (hW : Wk_ V') (h : SQp Mx' N N') (hg : ∀ M', SQp Mx' N M' → G M') : V' 180 [rr 6, ii T, ii x2, ii x3, ii x4, ii x5, none] [] N' :=
  b_252_180 (Tr_mono _) hV hW _ _ _ _ _ _ (q_227s h.1 (by rw [if_neg (by decide)]; exact qPR_s hx hV hW h hg))
theorem nt_sp [Inhabited gh_] {k p : Int} (hs : sp_ N) : nt_ N k p = N := by unfold nt_; rw [if_pos hs.2]
theorem qv2_s [Inhabited gh_] {v1 v2 p : Int} (hx : 0 ≤ T ∧ T < 6) (hV : Cl_ wd0 (Tr_ wd0 pg0 (dq + 18)) V' (rv_ G) Qtq m_252) (hW : Wk_ V') (h : SQp Mx' N N') (hg : ∀ M', SQp Mx' N M' → G M') : (if v1 ≤ v2 then
     V' 180 [rr 6, ii T, ii x2, ii v1, ii p, ii v2, none] [] N'
    else
     Tr_ wd0 pg0 (dq + 18) 236 [.inr (.inr 6), .inl 6, .inl p] N' (rv_ fun M4 =>
      V' 180 [rr 6, ii T, ii x2, ii v1, ii p, ii v2, none] [] M4) Qtq) := by
  by_cases c : v1 ≤ v2
  · rw [if_pos c]; exact q180_s hx hV hW h hg
  · rw [if_neg c]
    refine q_236 ?_
    rw [nt_sp h.1]; exact q180_s hx hV hW h hg
theorem q24_s [Inhabited gh_] {v1 : Int} (hx : 0 ≤ T ∧ T < 6) (hV : Cl_ wd0 (Tr_ wd0 pg0 (dq + 18)) V' (rv_ G) Qtq m_252) (hW : Wk_ V') (h : SQp Mx' N N') (hg : ∀ M', SQp Mx' N M' → G M') : (0 ≤ N' 6 12 ∧ N' 6 12 < 1202) ∧
    Tr_ wd0 pg0 (dq + 18) 248 [.inr (.inr 6), .inl 200] N' (ri_ fun v2 M3 =>
    (if v1 ≤ v2 then
     V' 180 [rr 6, ii T, ii x2, ii v1, ii (N' 150 (N' 6 12)), ii v2, none] [] M3
    else
     Tr_ wd0 pg0 (dq + 18) 236 [.inr (.inr 6), .inl 6, .inl (N' 150 (N' 6 12))] M3 (rv_ fun M4 =>
      V' 180 [rr 6, ii T, ii x2, ii v1, ii (N' 150 (N' 6 12)), ii v2, none] [] M4) Qtq)) Qtq := ⟨h.2.1, q_248s h.1 h.2.1 (qv2_s hx hV hW h hg)⟩
theorem y_cnt [Inhabited gh_] (hV : Cl_ wd0 (Tr_ wd0 pg0 130) V (rv_ Kv) Qt m_126) (hW : Wk_ V) (h : HDR b F M N a) (hT : M 1 18 = T) (hf : M 1 7 + 8 * (1201 - a) ≤ 1000000000 - (gg_ : Int)) (hS : b = 1 → ctS (M 70) (M 73) a ≠ none)
    (hK : ∀ M1 N1, HDR b F M1 N1 (a + 3) → CTF b T M N M1 N1 → (b = 1 → kk_ (N1 6 13) (N1 6 14) ≤ kk_ (N 6 13) (N 6 14)) → ctS (M 70) (M 73) a = some (a + 3) → (∀ (G : mm_ → Prop) (Qtq : qt_), qPR dq T x2 (M 73 a) (M 71 (a + 1 + 1)) (M 73 (a + 1 + 1)) N1 G Qtq → q131 dq T x2 N G Qtq) → V 281 [rr 1, ii y1, ii (a + 1 + 1), none, none, none, none] [] M1)
    (hQ : b = 0 → ∀ Mx', XPb M Mx' → (∀ (G : mm_ → Prop) (Qtq : qt_), (∀ M', SQp Mx' N M' → G M') → q131 dq T x2 N G Qtq) → Qt 8 Mx') :
    z158 V Qt y1 T M := by
  have hE := TS_E h.1.1
  have hTk := h.1.1.1.1
  have ha := ER_a hE
  have hV0 := h.1.1.1.2.1
  have hx : 0 ≤ T ∧ T < 6 := by have := hV0.2.2; omega
  unfold z158
  refine y_124 (dq := dq + 14) hTk hE (fun hb => bind_n (hS hb)) (fun k1 m1 z1 h12 hE1 sy1 hq1 => ?_) (fun hb Mx' hx' hq' => ?_)
  rotate_left
  · exact hQ hb Mx' (XF_P hx') (fun G Qtq hg V' hV' hW' => b_252_131 (Tr_mono _) hV' hW' _ _ _ (hq' _ _ fun v M9 p => q_244s p.1 (q24_s hx hV' hW' (SQ_P p) hg)))
  have H1 := HDR_go h hE1
  have H1' : HDR b F (up_ (nX_ M) 120 T (M 73 a)) (nx_ N) (a + 1) := HDR_nr H1 (fun r h _ _ _ => up_ne h) (fun _ => up_ne (by decide)) (fun _ _ _ _ => rfl)
  have hE1' := TS_E H1'.1.1
  have hT1 := H1'.1.1.1.1
  have u70 : up_ (nX_ M) 120 T (M 73 a) 70 = M 70 := by rw [up_ne (by decide), nX_ne (by decide)]
  have xp1 : XPb M (up_ (nX_ M) 120 T (M 73 a)) := XPb_tr XPb_nX (fun r hr => up_ne (fun e => hr (by rw [e]; decide)))
  have eS1 : ctS (M 70) (M 73) a = (tS (M 70) 115 (a + 1)).bind fun a2 => cnS (M 70) (M 73) 200 a2 := by unfold ctS; rw [sy1, Option.bind_some]
  refine ⟨hx, ?_⟩
  refine y_108 hE1' (by decide) (fun hb => by rw [u70]; have := hS hb; rw [eS1] at this; exact bind_n this) (fun k2 h13 hE2 => ?_) (fun hb k2 h13 => ?_) (fun hb k2 => ?_)
  rotate_left
  · have hsp := SQ_bf hE1' hb (k := 2) (by decide) QA_rf
    exact hQ hb _ (XPb_tr xp1 XPb_fl) (fun G Qtq hg V' hV' hW' => b_252_131 (Tr_mono _) hV' hW' _ _ _ (hq1 _ _ (j_244r hT1 hE1' hb (by decide) k2 h13 (q24_s hx hV' hW' (SQp_tr QPb_nx (SQ_P hsp)) hg))))
  · have hsp := SQ_bf hE1' hb (k := 1) (by decide) QA_rf
    exact hQ hb _ (XPb_tr xp1 XPb_fl) (fun G Qtq hg V' hV' hW' => b_252_131 (Tr_mono _) hV' hW' _ _ _ (hq1 _ _ (j_244w hT1 hE1' hb (by decide) k2 (q24_s hx hV' hW' (SQp_tr QPb_nx (SQ_P hsp)) hg))))
  have H2 := HDR_go H1' hE2
  have hT2 := H2.1.1.1.1
  have k2' : M 70 (a + 1) = 115 := by rw [← u70]; exact k2
  have eS2 : ctS (M 70) (M 73) a = cnS (M 70) (M 73) 200 (a + 1 + 1) := by rw [eS1, tS_e k2' h13, Option.bind_some]
  have v70 : nX_ (up_ (nX_ M) 120 T (M 73 a)) 70 = M 70 := by rw [nX_ne (by decide)]; exact u70
  have v73 : nX_ (up_ (nX_ M) 120 T (M 73 a)) 73 = M 73 := by rw [nX_ne (by decide), up_ne (by decide), nX_ne (by decide)]
  have e13 : nX_ (up_ (nX_ M) 120 T (M 73 a)) 1 3 = a + 1 + 1 := hE2.2.1
  have e18 : nX_ (up_ (nX_ M) 120 T (M 73 a)) 1 18 = T := by rw [nX_1 (by decide), up_ne (by decide), nX_1 (by decide)]; exact hT
  have e12 : nx_ (nx_ N) 6 12 = a + 1 + 1 := hE2.2.2.1
  have p2 : nx_ (nx_ N) 150 (a + 1 + 1) = M 71 (a + 1 + 1) := by
    have := (hT2 (a + 1 + 1) hE2.1).2.1
    rw [nX_ne (by decide), up_ne (by decide), nX_ne (by decide)] at this
    exact this.symm
  have xp2 : XPb M (nX_ (up_ (nX_ M) 120 T (M 73 a))) := XPb_tr xp1 XPb_nX
  refine ⟨by rw [nX_1 (by decide), up_ne (by decide), nX_1 (by decide)]; exact hV0.1, ?_⟩
  have toQ : ∀ {G : mm_ → Prop} {Qtq : qt_}, (∀ V' : vv_, Cl_ wd0 (Tr_ wd0 pg0 (dq + 18)) V' (rv_ G) Qtq m_252 → Wk_ V' → Tr_ wd0 pg0 (dq + 14 + 4) 248 [.inr (.inr 6), .inl 200] (nx_ (nx_ N)) (ri_ fun v2 M3 =>
    (if M 73 a ≤ v2 then
     V' 180 [rr 6, ii T, ii x2, ii (M 73 a), ii (M 71 (a + 1 + 1)), ii v2, none] [] M3
    else
     Tr_ wd0 pg0 (dq + 18) 236 [.inr (.inr 6), .inl 6, .inl (M 71 (a + 1 + 1))] M3 (rv_ fun M4 =>
      V' 180 [rr 6, ii T, ii x2, ii (M 73 a), ii (M 71 (a + 1 + 1)), ii v2, none] [] M4) Qtq)) Qtq) → q131 dq T x2 N G Qtq := fun hq V' hV' hW' => b_252_131 (Tr_mono _) hV' hW' _ _ _ (hq1 _ _ (j_244t hT1 hE1' (by decide) k2 h13 (by
      rw [e12, p2]
      exact ⟨by (clear hV hW h hT hf hS hK hQ hE hTk hV0 hx k1 m1 z1 hE1 sy1 hq1 H1 H1' hE1' hT1 u70 xp1 eS1 k2 hE2 H2 hT2 k2' eS2 v70 v73 e18 p2 xp2 hq hV' hW'; lia), hq V' hV' hW'⟩)))
  refine y_124 (dq := dq + 14) hT2 hE2 (fun hb => by rw [v70, v73]; have := hS hb; rw [eS2] at this; exact this) (fun k3 m3 z3 h14 hE3 sy3 hq3 => ?_) (fun hb Mx' hx' hq' => ?_)
  rotate_left
  · exact hQ hb Mx' (XPb_tr xp2 (XF_P hx')) (fun G Qtq hg => toQ fun V' hV' hW' => hq' _ _ fun v M9 p => qv2_s hx hV' hW' (SQp_tr (QPb_tr QPb_nx QPb_nx) (SQ_P p)) hg)
  have H3 := HDR_go H2 hE3
  rw [v73] at m3 z3 hq3 ⊢
  rw [v70, v73] at sy3
  rw [e13, e18]
  refine ⟨hx, ?_⟩
  generalize eM2 : nX_ (up_ (nX_ M) 120 T (M 73 a)) = M2 at *
  have r2 : ∀ r : Nat, r ≠ 1 → r ≠ 120 → M2 r = M r := fun r h h' => by rw [← eM2, nX_ne h, up_ne h', nX_ne h]
  have m120 : M2 120 T = M 73 a := by rw [← eM2, nX_ne (by decide), up_at]
  have o120 : ∀ i, i ≠ T → M2 120 i = M 120 i := fun i hi => by rw [← eM2, nX_ne (by decide), up_of2 hi, nX_ne (by decide)]
  have o1 : ∀ i : Int, i ≠ 3 → M2 1 i = M 1 i := fun i hi => by rw [← eM2, nX_1 hi, up_ne (by decide), nX_1 hi]
  clear eM2
  have e8 : nX_ M2 1 8 = b := hE3.2.2.2.2.2.2.1
  have f12 : nX_ M2 1 2 = 5 := by rw [nX_1 (by decide), o1 2 (by decide)]; exact hV0.1
  have f18 : nX_ M2 1 18 = T := by rw [nX_1 (by decide)]; exact e18
  have f120 : nX_ M2 120 T = M 73 a := by rw [nX_ne (by decide)]; exact m120
  have H4 : HDR b F (up_ (nX_ M2) 121 T (M 73 (a + 1 + 1))) (nx_ (nx_ (nx_ N))) (a + 1 + 1 + 1) := HDR_nr H3 (fun r _ h _ _ => up_ne h) (fun _ => up_ne (by decide)) (fun _ _ _ _ => rfl)
  have e71 : up_ (nX_ M2) 121 T (M 73 (a + 1 + 1)) 71 = M 71 := by rw [up_ne (by decide), nX_ne (by decide), r2 71 (by decide) (by decide)]
  have f7 : up_ (nX_ M2) 121 T (M 73 (a + 1 + 1)) 1 7 = M 1 7 := by rw [up_ne (by decide), nX_1 (by decide), o1 7 (by decide)]
  have gd2 : gd_ (up_ (nX_ M2) 121 T (M 73 (a + 1 + 1))) (a + 1 + 1) := by
    have := hE2.1
    unfold gd_ at this ⊢
    rw [up_ne (by decide), nX_ne (by decide)]; exact this
  have fin : ∀ kk : Int, (kk = if M 73 (a + 1 + 1) < M 73 a then 6 else 0) → V 281 [rr 1, ii y1, ii (a + 1 + 1), none, none, none, none] [] (Xn_ (up_ (nX_ M2) 121 T (M 73 (a + 1 + 1))) b kk (a + 1 + 1)) := fun kk hkk => by
    have hk6 : kk = 0 ∨ (3 ≤ kk ∧ kk ≤ 6) := by
      by_cases c : M 73 (a + 1 + 1) < M 73 a
      · rw [if_pos c] at hkk; (clear hV hW h hT hf hS hK hQ hE hTk ha hV0 hx k1 m1 z1 h12 hE1 sy1 hq1 H1 H1' hE1' hT1 u70 xp1 eS1 k2 h13 k2' eS2 e12 p2 toQ m3 z3 h14 sy3 hq3 hE2 H2 hT2 v70 v73 e13 e18 xp2 k3 hE3 H3 r2 m120 o120 o1 e8 f12 f18 f120 H4 e71 f7 gd2 c; omega)
      · rw [if_neg c] at hkk; (clear hV hW h hT hf hS hK hQ hE hTk ha hV0 hx k1 m1 z1 h12 hE1 sy1 hq1 H1 H1' hE1' hT1 u70 xp1 eS1 k2 h13 k2' eS2 e12 p2 toQ m3 z3 h14 sy3 hq3 hE2 H2 hT2 v70 v73 e13 e18 xp2 k3 hE3 H3 r2 m120 o120 o1 e8 f12 f18 f120 H4 e71 f7 gd2 c; lia)
    obtain ⟨H5, p5, _⟩ := HDR_n (kk := kk) (tk := a + 1 + 1) H4 hk6 gd2 (by rw [f7]; (clear hV hW h hT hS hK hQ hE hTk ha hV0 hx k1 m1 z1 h12 hE1 sy1 hq1 H1 H1' hE1' hT1 u70 xp1 eS1 k2 h13 k2' eS2 p2 toQ m3 z3 h14 sy3 hq3 hE2 H2 hT2 v70 v73 e18 xp2 k3 hE3 H3 r2 m120 o120 o1 e8 f12 f18 f120 H4 e71 gd2 hkk hk6; lia))
    rw [e71] at H5 p5
    have H6 : HDR b F (Xn_ (up_ (nX_ M2) 121 T (M 73 (a + 1 + 1))) b kk (a + 1 + 1)) (up_ (up_ (Qn_ (nx_ (nx_ (nx_ N))) b kk (M 71 (a + 1 + 1))) 168 T (M 73 a)) 169 T (M 73 (a + 1 + 1))) (a + 1 + 1 + 1) := HDR_nr H5 (fun _ _ _ _ _ => rfl) (fun _ => rfl) (fun r h h' _ => by rw [up_ne h', up_ne h])
    rw [show a + 1 + 1 + 1 = a + 3 by omega] at H6
    have z73 : 0 ≤ M 73 (a + 1 + 1) := z3
    have z73' : 0 ≤ M 73 a := z1
    refine hK _ _ H6 ⟨fun r h h' h'' => ?_, fun i hi => ?_, fun i h3 h4 h5 h7 => ?_, fun r h h' h'' => ?_, fun i hi => ?_, fun i h2 h3 h4 => ?_, ⟨?_, ?_, ?_⟩, fun hb hz => ?_⟩ (fun hb => by have := (p5.2.2.2.2.2.2.2.2 hb).1; rw [nx_6 (by decide), nx_6 (by decide), nx_6 (by decide), nx_6 (by decide), nx_6 (by decide), nx_6 (by decide)] at this; rw [up_ne (by decide), up_ne (by decide)]; exact this) ?_ (fun G Qtq hq => toQ fun V' hV' hW' => hq3 _ _ ?_)
    · rw [Xn_r h, up_ne h'', nX_ne h, r2 r h h']
    · rw [Xn_r (by decide), Xn_r (by decide), up_of2 hi, up_of2 hi, nX_ne (by decide), nX_ne (by decide), o120 i hi, r2 121 (by decide) (by decide)]
      exact ⟨rfl, rfl⟩
    · rw [Xn_1 h4 h5 h7, up_ne (by decide), nX_1 h3, o1 i h3]
    · rw [up_ne h'', up_ne h', Qn_r h, nx_ne h, nx_ne h, nx_ne h]
    · rw [up_of2 hi, up_of2 hi, up_of2 hi, up_of2 hi, Qn_r (by decide), Qn_r (by decide), nx_ne (by decide), nx_ne (by decide), nx_ne (by decide), nx_ne (by decide), nx_ne (by decide), nx_ne (by decide)]
      exact ⟨rfl, rfl⟩
    · rw [up_ne (by decide), up_ne (by decide), Qn_6 h3 h4, nx_6 h2, nx_6 h2, nx_6 h2]
    · rw [up_ne (M := up_ _ 168 T _) (by decide), up_at, up_at, Xn_r (by decide), Xn_r (by decide), up_at, up_ne (by decide), f120]
      exact ⟨rfl, rfl⟩
    · rw [Xn_r (by decide), up_ne (by decide), f120]; exact ⟨z73', m1⟩
    · rw [Xn_r (by decide), up_at]; exact ⟨z73, m3⟩
    · have z5 := (p5.2.2.1 hb).2.2 (by rw [up_ne (by decide), up_ne (by decide)] at hz; exact hz)
      rw [nx_6 (by decide), nx_6 (by decide), nx_6 (by decide)] at z5
      exact z5
    · rw [eS2, sy3]
      rw [show a + 1 + 1 + 1 = a + 3 by (clear hV hW h hT hf hS hK hQ hE hTk ha hV0 hx k1 m1 z1 h12 hE1 sy1 hq1 H1 H1' hE1' hT1 u70 xp1 eS1 k2 h13 k2' eS2 e12 p2 toQ m3 z3 h14 sy3 hq3 hE2 H2 hT2 v70 v73 e13 e18 xp2 k3 hE3 H3 r2 m120 o120 o1 e8 f12 f18 f120 H4 e71 f7 gd2 hkk hk6 H5 p5 H6 z73 z73'; omega)]
    · have c180 : V' 180 [rr 6, ii T, ii x2, ii (M 73 a), ii (M 71 (a + 1 + 1)), ii (M 73 (a + 1 + 1)), none] [] (Qn_ (nx_ (nx_ (nx_ N))) b kk (M 71 (a + 1 + 1))) := by
        refine b_252_180 (Tr_mono _) hV' hW' _ _ _ _ _ _ (q_227g (ER_goq (TS_E H5.1.1)) ?_)
        rw [if_pos rfl]
        exact ⟨hx, hx, hq V' hV' hW'⟩
      by_cases cc : M 73 a ≤ M 73 (a + 1 + 1)
      · rw [if_pos cc]
        have k0 : kk = 0 := by rw [if_neg (by (clear hV hW h hT hf hS hK hQ hE hTk ha hV0 hx k1 m1 z1 h12 hE1 sy1 hq1 H1 H1' hE1' hT1 u70 xp1 eS1 k2 h13 k2' eS2 e12 p2 toQ m3 z3 h14 sy3 hq3 hE2 H2 hT2 v70 v73 e13 e18 xp2 k3 hE3 H3 r2 o120 o1 e8 f12 f18 H4 e71 f7 gd2 hkk hk6 H5 p5 H6 z73 z73' hq hV' hW' c180; omega))] at hkk; exact hkk
        have : Qn_ (nx_ (nx_ (nx_ N))) b kk (M 71 (a + 1 + 1)) = nx_ (nx_ (nx_ N)) := by unfold Qn_; rw [if_pos (.inr k0)]
        rw [this] at c180; exact c180
      · rw [if_neg cc]
        have k6 : kk = 6 := by rw [if_pos (by (clear hV hW h hT hf hS hK hQ hE hTk ha hV0 hx k1 m1 z1 h12 hE1 sy1 hq1 H1 H1' hE1' hT1 u70 xp1 eS1 k2 h13 k2' eS2 e12 p2 toQ m3 z3 h14 sy3 hq3 hE2 H2 hT2 v70 v73 e13 e18 xp2 k3 hE3 H3 r2 o120 o1 e8 f12 f18 H4 e71 f7 gd2 hkk hk6 H5 p5 H6 z73 z73' hq hV' hW' c180; omega))] at hkk; exact hkk
        refine q_236 ?_
        have : Qn_ (nx_ (nx_ (nx_ N))) b kk (M 71 (a + 1 + 1)) = nt_ (nx_ (nx_ (nx_ N))) 6 (M 71 (a + 1 + 1)) := by
          unfold Qn_
          rw [k6]
          by_cases cb : b = 0
          · rw [if_pos (.inl cb)]
            unfold nt_
            rw [if_pos (hE3.2.2.2.2.2.2.2.1.trans cb)]
          · rw [if_neg (by (clear hV hW h hT hf hS hK hQ hE hTk ha hV0 hx k1 m1 z1 h12 hE1 sy1 hq1 H1 H1' hE1' hT1 u70 xp1 eS1 k2 h13 k2' eS2 e12 p2 toQ m3 z3 h14 sy3 hq3 hE2 H2 hT2 v70 v73 e13 e18 xp2 k3 hE3 H3 r2 m120 o120 o1 e8 f12 f18 f120 H4 e71 f7 gd2 hkk hk6 H5 p5 H6 z73 z73' hq hV' hW' c180 cc k6; lia))]
        rw [this] at c180; exact c180
  intro _
  rw [e8]
  by_cases cb : b = 0
  · rw [if_pos cb]
    have := fin _ rfl
    unfold Xn_ at this
    rw [if_pos (.inl cb)] at this
    exact this
  · rw [if_neg cb, f18, up_at, f120]
    refine ⟨f12, hx, f12, hx, ?_⟩
    by_cases c6 : M 73 (a + 1 + 1) < M 73 a
    · rw [if_pos c6]
      have := fin 6 (by rw [if_pos c6])
      unfold Xn_ at this
      rw [if_neg (by (clear hV hW h hT hf hS hK hQ hE hTk ha hV0 hx k1 m1 z1 h12 hE1 sy1 hq1 H1 H1' hE1' hT1 u70 xp1 eS1 k2 h13 k2' eS2 e12 p2 toQ m3 z3 h14 sy3 hq3 hE2 H2 hT2 v70 v73 e13 e18 xp2 k3 hE3 H3 r2 m120 o120 o1 e8 f12 f18 f120 H4 e71 f7 gd2 fin c6 this; lia))] at this
      exact x_116 (by (clear hV hW h hT hf hS hK hQ hE hTk hV0 hx k1 m1 z1 hE1 sy1 hq1 H1 H1' hE1' hT1 u70 xp1 eS1 k2 k2' eS2 p2 toQ m3 z3 sy3 hq3 hE2 H2 hT2 v70 v73 e18 xp2 k3 hE3 H3 r2 m120 o120 o1 e8 f12 f18 f120 H4 e71 f7 gd2 fin cb c6 this; lia)) (by (clear hV hW h hT hf hS hK hQ hE hTk hV0 hx k1 m1 z1 hE1 sy1 hq1 H1 H1' hE1' hT1 u70 xp1 eS1 k2 k2' eS2 p2 toQ m3 z3 sy3 hq3 hE2 H2 hT2 v70 v73 e18 xp2 k3 hE3 H3 r2 m120 o120 o1 e8 f12 f18 f120 H4 e71 f7 gd2 fin cb c6 this; lia)) (by rw [f7]; exact hE.2.2.2.2.2.2.2.2.2.2.2.1) (by rw [f7]; (clear hV hW h hT hS hK hQ hE hTk hV0 hx k1 m1 z1 hE1 sy1 hq1 H1 H1' hE1' hT1 u70 xp1 eS1 k2 k2' eS2 p2 toQ m3 z3 sy3 hq3 hE2 H2 hT2 v70 v73 e18 xp2 k3 hE3 H3 r2 m120 o120 o1 e8 f12 f18 f120 H4 e71 gd2 fin cb c6 this; lia)) this
    · rw [if_neg c6]
      have := fin 0 (by rw [if_neg c6])
      unfold Xn_ at this
      rw [if_pos (.inr rfl)] at this
      exact this
end CTw
end T256_ct

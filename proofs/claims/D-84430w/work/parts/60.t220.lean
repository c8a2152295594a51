section T220_sn
/-! names of states: a new one -/
section SO
variable {d dq : Nat} {b F : Int} {M N M1 N1 M2 N2 Mx Mq : mm_} {a a' ee ee' mask k t v : Int} {K : Int → mm_ → Prop} {Kv : mm_ → Prop} {Qt : qt_} {sm : Int → Bool}
theorem stt_m [Inhabited gh_] (hV : N 6 61 = M 1 18) (h61 : N1 6 61 = N 6 61) (hn : N 174 (M 1 18) = M 123 (M 1 18)) (h0 : 0 ≤ M 123 (M 1 18)) (hn1 : N1 174 (M 1 18) = M1 123 (M 1 18)) (h : SNW b M N M1 N1) (hs : stt N v ≠ -1) : stt N1 v ≠ -1 := by
  obtain ⟨a1, a2, a3, a4, a5⟩ := h
  unfold stt at hs ⊢
  rw [h61, hV, hn1]
  rw [hV, hn] at hs
  rcases fi_r (fun i => N 179 (12 * M 1 18 + i)) v (M 123 (M 1 18)).toNat 0 with e | ⟨e1, e2, e3⟩
  · exact absurd e hs
  · intro e
    have := fi_no _ _ _ _ e (Int.le_refl _) (fi_ (fun i => N 179 (12 * M 1 18 + i)) v (M 123 (M 1 18)).toNat 0) e1 (by omega)
    apply this
    show N1 179 (12 * M 1 18 + fi_ (fun i => N 179 (12 * M 1 18 + i)) v (M 123 (M 1 18)).toNat 0) = v
    rw [(a1 _ (.inl (by omega))).2.1]; exact e3
theorem stt_a [Inhabited gh_] (h : QA N N1) : stt N1 v = stt N v := by unfold stt; rw [h.1 179 (by decide), h.1 174 (by decide), h.2 61 (by decide)]
theorem SOK_s [Inhabited gh_] (h151 : N2 151 = N1 151) (hm : ∀ v, b = 0 → stt N1 v ≠ -1 → stt N2 v ≠ -1) (hS : b = 1 → SMT N1 = SMT Mq) (h : SOK b sm Mq N2) : SOK b sm Mq N1 ∧ SOK b sm N1 N2 := ⟨⟨fun hb t ht => h.1 hb t (by rw [h151]; exact hm _ hb ht), h.2⟩, ⟨h.1, fun hb => by rw [hS hb]; exact h.2 hb⟩⟩
theorem ns_stt9 [Inhabited gh_] (h9 : stt9 M N) (hV : N 6 61 = M 1 18) (hT : 0 ≤ M 1 18) (h12 : M 123 (M 1 18) < 12) (ht : nm9_ M t) : stt9 (nsX M t) (nsQ N t) := by
  obtain ⟨⟨a1, a2, a3⟩, a4⟩ := h9
  have x1 : nsX M t 1 = M 1 := nsX_r (by decide) (by decide)
  have x123 : nsX M t 123 (M 1 18) = M 123 (M 1 18) + 1 := by unfold nsX; rw [up_at]
  have q174 : nsQ N t 174 (M 1 18) = N 174 (M 1 18) + 1 := by unfold nsQ; rw [hV, up_at]
  unfold stt9
  rw [x1, x123, q174]
  refine ⟨⟨by omega, by omega, by omega⟩, fun k k0 k1 => ?_⟩
  have e151 : nsQ N t 151 = N 151 := nsQ_r (by decide) (by decide) (by decide)
  have e70 : nsX M t 70 = M 70 := nsX_r (by decide) (by decide)
  rw [e151]
  have e179 : ∀ i, nsQ N t 179 i = if i = 12 * M 1 18 + M 123 (M 1 18) then N 151 t else N 179 i := fun i => by
    unfold nsQ
    rw [up_ne (by decide), up_ne (by decide), hV, a3]
    by_cases c : i = 12 * M 1 18 + M 123 (M 1 18)
    · rw [if_pos c, c, up_at]
    · rw [if_neg c, up_of2 c]
  have e59 : ∀ i, nsX M t 59 i = if i = 12 * M 1 18 + M 123 (M 1 18) then t else M 59 i := fun i => by
    unfold nsX
    rw [up_ne (by decide)]
    by_cases c : i = 12 * M 1 18 + M 123 (M 1 18)
    · rw [if_pos c, c, up_at]
    · rw [if_neg c, up_of2 c]
  rw [e179, e59]
  by_cases c : k = M 123 (M 1 18)
  · rw [if_pos (by omega), if_pos (by omega)]
    exact ⟨⟨gd_c e70 ht.1, by rw [e70]; exact ht.2⟩, rfl⟩
  · rw [if_neg (by omega), if_neg (by omega)]
    have := a4 k k0 (by omega)
    exact ⟨⟨gd_c e70 this.1.1, by rw [e70]; exact this.1.2⟩, this.2⟩
theorem ns_X [Inhabited gh_] : XSb M (nsX M t) := ⟨fun r hr => nsX_r (fun e => hr (by rw [e]; decide)) (fun e => hr (by rw [e]; decide)), fun i _ => by rw [nsX_r (by decide) (by decide)], fun i _ _ => by rw [nsX_r (by decide) (by decide)]⟩
theorem ns_Q [Inhabited gh_] : QSb N (nsQ N t) := ⟨fun r hr => nsQ_r (fun e => hr (by rw [e]; decide)) (fun e => hr (by rw [e]; decide)) (fun e => hr (by rw [e]; decide)), fun i _ => by rw [nsQ_r (by decide) (by decide) (by decide)]⟩
theorem STA_ns [Inhabited gh_] (h : STA b F M N a ee) (hb : b = 0) (h12 : M 123 (M 1 18) < 12) (ht : nm9_ M t) : STA b F (nsX M t) (nsQ N t) a ee := by
  obtain ⟨h1, ⟨s1, s2, s3⟩, h4⟩ := h
  have hV := h1.1.2.1
  have x : ∀ r : Nat, r ≠ 59 → r ≠ 123 → nsX M t r = M r := fun r a b => nsX_r a b
  have q : ∀ r : Nat, r ≠ 179 → r ≠ 186 → r ≠ 174 → nsQ N t r = N r := fun r a b c => nsQ_r a b c
  exact ⟨TS_d h1 ns_X ns_Q (fun i _ _ => by rw [x 1 (by decide) (by decide)]) (by rw [x 5 (by decide) (by decide)]) (ns_stt9 h1.2.2.2.1 hV.2.1 hV.2.2.1 h12 ht) (x _ (by decide) (by decide)) (x _ (by decide) (by decide)) (fun i _ _ => by rw [q 6 (by decide) (by decide) (by decide)]) (q _ (by decide) (by decide) (by decide)) (q _ (by decide) (by decide) (by decide)) (q _ (by decide) (by decide) (by decide)), ⟨by rw [x 5 (by decide) (by decide)]; exact s1, by rw [q 6 (by decide) (by decide) (by decide)]; exact s2, by rw [q 6 (by decide) (by decide) (by decide)]; exact s3⟩, fun hb1 => by omega⟩
theorem SNW_ns [Inhabited gh_] (hb : b = 0) (hT : Tks M N) (h9 : stt9 M N) (hV : N 6 61 = M 1 18) (hT0 : 0 ≤ M 1 18) (h12 : M 123 (M 1 18) < 12) (ht : nm9_ M t) : SNW b M N (nsX M t) (nsQ N t) := by
  have a3 := h9.1
  have x123 : nsX M t 123 (M 1 18) = M 123 (M 1 18) + 1 := by unfold nsX; rw [up_at]
  refine ⟨fun i hi => ⟨?_, ?_, ?_⟩, fun i hi => ⟨?_, ?_⟩, by omega, fun k k0 k1 => ?_, fun hb1 => by omega⟩
  · unfold nsX; rw [up_ne (by decide), up_of2 (by omega)]
  · unfold nsQ; rw [up_ne (by decide), up_ne (by decide), hV, a3.2.2, up_of2 (by omega)]
  · unfold nsQ; rw [up_ne (by decide), hV, a3.2.2, up_of2 (by omega), up_ne (by decide)]
  · unfold nsX; rw [up_of2 hi, up_ne (by decide)]
  · unfold nsQ; rw [hV, up_of2 hi, up_ne (by decide), up_ne (by decide)]
  · rw [x123] at k1
    rw [show k = M 123 (M 1 18) by omega, nsX_r (r := 71) (by decide) (by decide)]
    have e1 : nsX M t 59 (12 * M 1 18 + M 123 (M 1 18)) = t := by unfold nsX; rw [up_ne (by decide), up_at]
    have e2 : nsQ N t 186 (12 * M 1 18 + M 123 (M 1 18)) = N 150 t := by unfold nsQ; rw [up_ne (by decide), hV, a3.2.2, up_at]
    rw [e1, e2]; exact (hT t ht.1).2.1.symm
/-- Q's stateHere: a state that there is -/
theorem q_305k [Inhabited gh_] (hV : VT M N) (h9 : stt9 M N) (ht : 0 ≤ t ∧ t < 1202) (hk : stt N (N 151 t) ≠ -1) (h : K (sl_ 1 (stt N (N 151 t))) N) : Tr_ wd0 pg0 (d + 2) 305 [.inr (.inr 6), .inl t] N (ri_ K) Qt := by
  have r := stt_r hV h9 (v := N 151 t)
  refine t_305 fun V hV' hW => b_305_0 (Tr_mono _) hV' hW _ _ ⟨ht, q_267R hV h9 ?_⟩
  rw [if_neg (by omega)]
  exact ri_i h
/-- a new one -/
theorem q_305n [Inhabited gh_] (hV : VT M N) (h9 : stt9 M N) (ht : 0 ≤ t ∧ t < 1202) (h16 : N 6 16 = 0) (hk : stt N (N 151 t) = -1) (h12 : N 174 (N 6 61) < 12) (h : K (sl_ 1 (N 174 (N 6 61))) (nsQ N t)) : Tr_ wd0 pg0 (d + 2) 305 [.inr (.inr 6), .inl t] N (ri_ K) Qt := by
  have v := hV.2
  have a3 := h9.1
  have e174 : 0 ≤ N 174 (N 6 61) := by rw [v.1]; omega
  refine t_305 fun V hV' hW => b_305_0 (Tr_mono _) hV' hW _ _ ⟨ht, q_267R hV h9 ?_⟩
  rw [if_pos (by omega)]
  intro _
  rw [if_pos h16]
  refine ⟨by omega, ?_⟩
  rw [if_neg (by omega), w32_id (x := 12 * N 6 61) (by omega) (by omega), w32_id (x := 12 * N 6 61 + N 174 (N 6 61)) (by omega) (by omega), w32_id (x := N 174 (N 6 61) + 1) (by omega) (by omega)]
  exact ⟨by omega, ht, by omega, ht, by omega, by omega, by omega, ri_i h⟩
/-- no room -/
theorem q_305r [Inhabited gh_] (hV : VT M N) (h9 : stt9 M N) (ht : 0 ≤ t ∧ t < 1202) (h16 : N 6 16 = 0) (h13 : N 6 13 = 0) (hk : stt N (N 151 t) = -1) (h12 : N 174 (N 6 61) = 12) (h : K 0 (bf_ N 2 (N 150 t))) : Tr_ wd0 pg0 (d + 2) 305 [.inr (.inr 6), .inl t] N (ri_ K) Qt := by
  have v := hV.2
  refine t_305 fun V hV' hW => b_305_0 (Tr_mono _) hV' hW _ _ ⟨ht, q_267R hV h9 ?_⟩
  rw [if_pos (by omega)]
  intro _
  rw [if_pos h16]
  refine ⟨by omega, ?_⟩
  rw [if_pos h12]
  exact ⟨ht, q_231o h13 (ri_i h)⟩
end SO
end T220_sn
section T221_sn
/-! names of states: the loop (X 167 V 47 | Q 304 V 20) -/
def nmT (κ : Int → Int) (sm : Int → Bool) (a : Int) : Option (Int ⊕ Int) := if sm a then (tS κ 100 a).bind fun a1 => if κ a1 = 244 then (gS a1).bind fun a2 => some (.inl a2) else some (.inr a1) else none
def NM (κ : Int → Int) (sm : Int → Bool) (a : Int) : Option Int := LPz (nmT κ sm) a
section NMs
variable {κ : Int → Int} {sm : Int → Bool} {a : Int}
theorem nmT_y [Inhabited gh_] {L : Int → Option Int} {X : Option Int} (hX : tS κ 100 a = X) : (nmT κ sm a).bind (lk8_ L) = if sm a then X.bind fun a1 => if κ a1 = 244 then (gS a1).bind L else some a1 else none := by
  unfold nmT
  rw [hX]
  by_cases cs : sm a = true
  · rw [if_pos cs, if_pos cs]
    cases X with
    | none => rfl
    | some a1 =>
      rw [Option.bind_some, Option.bind_some]
      by_cases c : κ a1 = 244
      · rw [if_pos c, if_pos c]
        cases gS a1 with
        | none => rfl
        | some a2 => rfl
      · rw [if_neg c, if_neg c]; rfl
  · rw [if_neg cs, if_neg cs]; rfl
theorem nmT_l [Inhabited gh_] (s s' : Int) (h0 : 0 ≤ s) (h1 : s ≤ 1200) (h : nmT κ sm s = some (.inl s')) : s + 1 ≤ s' ∧ s' ≤ 1200 := by
  unfold nmT at h
  split at h
  · obtain ⟨x, e1, h⟩ := bind_s h
    have t := tS_s e1
    split at h
    · obtain ⟨y, e2, h⟩ := bind_s h
      have g := gS_s e2
      injection h with h; injection h with h; omega
    · injection h with h; cases h
  · cases h
theorem NM_e [Inhabited gh_] (h0 : 0 ≤ a) (h1 : a ≤ 1200) : NM κ sm a = if sm a then (tS κ 100 a).bind fun a1 => if κ a1 = 244 then (gS a1).bind (NM κ sm) else some a1 else none := (LP_u (step := nmT κ sm) (fun s => s) (fun s s' => nmT_l s s') (s := a) h0 h1).trans (nmT_y rfl)
end NMs
def q20 (dq : Nat) (mask x2 : Int) (N : mm_) (G : mm_ → Prop) (Qt : qt_) : Prop := ∀ V : vv_, Cl_ wd0 (Tr_ wd0 pg0 (dq + 17)) V (rv_ G) Qt m_304 → Wk_ V → V 20 [rr 6, ii mask, ii x2, none] [] N
/-- what the head of a state changes -/
def HB (b : Int) (Mx Mq M N : mm_) : Prop := b = 1 → (∀ r : Nat, r ≠ 1 → M r = Mx r) ∧ (∀ i : Int, i ≠ 3 → i ≠ 34 → M 1 i = Mx 1 i) ∧ (∀ r : Nat, r ≠ 6 → N r = Mq r) ∧ (∀ i : Int, i ≠ 12 → N 6 i = Mq 6 i)
def NMF (b : Int) (Mx Mq M N : mm_) : Prop := XSb Mx M ∧ QSb Mq N ∧ LKP b Mx M ∧ SNW b Mx Mq M N ∧ HB b Mx Mq M N ∧ M 128 = Mx 128 ∧ M 1 19 = Mx 1 19 ∧ LBW b Mx Mq M N
section SP
variable {d dq : Nat} {b F : Int} {M N M1 N1 M2 N2 Mx Mq : mm_} {a a' ee ee' mask k t v : Int} {K : Int → mm_ → Prop} {Kv G : mm_ → Prop} {Qt Qtq : qt_} {V : vv_} {sm : Int → Bool}
theorem HB_tr [Inhabited gh_] (h1 : HB b M N M1 N1) (h2 : HB b M1 N1 M2 N2) : HB b M N M2 N2 := fun hb => by
  obtain ⟨a1, a2, a3, a4⟩ := h1 hb
  obtain ⟨b1, b2, b3, b4⟩ := h2 hb
  exact ⟨fun r h => (b1 r h).trans (a1 r h), fun i h h' => (b2 i h h').trans (a2 i h h'), fun r h => (b3 r h).trans (a3 r h), fun i h => (b4 i h).trans (a4 i h)⟩
theorem NMF_tr [Inhabited gh_] (hT : 0 ≤ M 1 18) (h12 : M2 123 (M 1 18) ≤ 12) (h1 : NMF b M N M1 N1) (h2 : NMF b M1 N1 M2 N2) : NMF b M N M2 N2 := ⟨XSb_tr h1.1 h2.1, QSb_tr h1.2.1 h2.2.1, LKP_tr h1.2.2.1 h2.2.2.1, SNW_tr hT h12 (XSb_r h2.1 (by decide)) (h1.1.2.1 18 (by decide)) h1.2.2.2.1 h2.2.2.2.1, HB_tr h1.2.2.2.2.1 h2.2.2.2.2.1, h2.2.2.2.2.2.1.trans h1.2.2.2.2.2.1, h2.2.2.2.2.2.2.1.trans h1.2.2.2.2.2.2.1, LBW_tr h1.2.2.1 h1.2.2.2.2.2.2.2 h2.2.2.2.2.2.2.2⟩
theorem NMF_go [Inhabited gh_] : NMF b M N (nX_ M) (nx_ N) := ⟨XA_XSb (XF_XA nX_XF), QA_QSb (QF_QA nx_QF), (LKP_F nX_XF).1, SNW_N (NST_a (XF_XA nX_XF) (QF_QA nx_QF)), fun _ => ⟨fun r h => nX_ne h, fun i h _ => nX_1 h, fun r h => nx_ne h, fun i h => nx_6 h⟩, nX_ne (by decide), nX_1 (by decide), LBW_e (nX_ne (by decide)) (nX_ne (by decide)) (nx_ne (by decide)) (nx_ne (by decide)) (nx_ne (by decide)) (fun _ => by rw [nX_ne (by decide)]; exact ⟨rfl, rfl⟩)⟩
theorem NMF_34 [Inhabited gh_] {v : Int} : NMF b M N (up_ M 1 34 v) N := ⟨⟨fun r hr => up_ne (fun h => hr (by rw [h]; decide)), fun i hi => up_off (nm_i hi (by decide)), fun i _ _ => by rw [up_ne (by decide)]⟩, QSb_rf, (LKP_X (up_ne (by decide)) (up_ne (by decide)) (up_off (by decide)) (up_off (by decide))).1, SNW_N ⟨up_ne (by decide), up_ne (by decide), rfl, rfl, rfl⟩, fun _ => ⟨fun r h => up_ne h, fun i _ h => up_off h, fun _ _ => rfl, fun _ _ => rfl⟩, up_ne (by decide), up_off (by decide), LBW_e (up_ne (by decide)) (up_ne (by decide)) rfl rfl rfl (fun _ => by rw [up_ne (by decide)]; exact ⟨rfl, rfl⟩)⟩
theorem q20_s [Inhabited gh_] {V' : vv_} {x2 : Int} (hV : Cl_ wd0 (Tr_ wd0 pg0 (dq + 17)) V' (rv_ G) Qtq m_304) (hW : Wk_ V') (hs : sp_ N) (h : G N) : V' 20 [rr 6, ii mask, ii x2, none] [] N := by
  refine b_304_20 (Tr_mono _) hV hW _ _ _ ?_
  by_cases c : x2 = 0
  · rw [if_pos c]; exact q_244s hs (q70_s hV hW hs h)
  · rw [if_neg c]; exact q_227s hs (by rw [if_neg (by decide)]; exact q_244s hs (q70_s hV hW hs h))
theorem MKS_or [Inhabited gh_] (h : MKS M mask) (hk : 0 ≤ k ∧ k < M1 123 (M 1 18)) (h12 : M1 123 (M 1 18) ≤ 12) (hm : M 123 (M 1 18) ≤ M1 123 (M 1 18)) (h18 : M1 1 18 = M 1 18) : MKS (up_ M1 1 34 (or_ mask (sl_ 1 k))) (or_ mask (sl_ 1 k)) := by
  have o := or_bt (x := mask) (k := k) (m := 12) (by decide) h.1.1 (by have := h.1.2; omega) hk.1 (by omega)
  refine ⟨⟨o.1.1, by have := o.1.2; omega⟩, up_at, fun l l0 e => ?_⟩
  rw [up_ne (by decide), up_off (by decide), h18]
  rw [o.2 l l0] at e
  rcases e with e | e
  · have := h.2.2 l l0 e; omega
  · omega
theorem l_47 [Inhabited gh_] (hV : Cl_ wd0 (Tr_ wd0 pg0 129) V (rv_ Kv) Qt m_167) (hW : Wk_ V) :
    ∀ (n : Nat) (a ee mask : Int) (M N : mm_), 1201 - a ≤ (n : Int) → STA b F M N a ee → MKS M mask → (b = 1 → ((NM (M 70) (SMT N) a).bind (tS (M 70) 259)) ≠ none) →
    (∀ M' N' a' mask', STA b F M' N' a' (ee - 1) → MKS M' mask' → a + 1 ≤ a' → NMF b M N M' N' → (∀ sm, SOK b sm N N' → NM (M 70) sm a = some a') → (∀ (G : mm_ → Prop) (Qtq : qt_), q20 dq mask' 0 N' G Qtq → q20 dq mask 1 N G Qtq) → V 47 [rr 1, ii 0, none, none] [] M') →
    (b = 0 → ∀ Mx', XSb M Mx' → (∀ (G : mm_ → Prop) (Qtq : qt_), (∀ M', SQb Mx' N M' → G M') → q20 dq mask 1 N G Qtq) → Qt 8 Mx') →
    V 47 [rr 1, ii 1, none, none] [] M
  | 0, a, ee, mask, M, N, hn, h, _, _, _, _ => by have := ER_a (TS_E h.1); omega
  | n + 1, a, ee, mask, M, N, hn, h, hm, hS, hK, hQ => by
    have hE := TS_E h.1
    have hT := h.1.1.1
    have ha := ER_a hE
    have h01 := bl01 hE
    have hV0 := h.1.1.2.1
    have stopped : ∀ {Mx' M2 : mm_}, SQ Mx' N M2 → SQb Mx' N M2 := fun hs => ⟨hs.1, hs.2.1, hs.2.2.1, hs.2.2.2.1, QA_QSb hs.2.2.2.2⟩
    have eNM : ∀ sm, NM (M 70) sm a = if sm a then (tS (M 70) 100 a).bind fun a1 => if M 70 a1 = 244 then (gS a1).bind (NM (M 70) sm) else some a1 else none := fun sm => NM_e ha.1 ha.2
    refine b_167_47 (Tr_mono _) hV hW _ _ ?_
    rw [if_neg (by decide)]
    have toQ : ∀ {G : mm_ → Prop} {Qtq : qt_}, (∀ V' : vv_, Cl_ wd0 (Tr_ wd0 pg0 (dq + 17)) V' (rv_ G) Qtq m_304 → Wk_ V' → Tr_ wd0 pg0 (dq + 17) 233 [.inr (.inr 6)] N (ri_ fun v2 M4 =>
     Tr_ wd0 pg0 (dq + 17) 227 [.inr (.inr 6)] M4 (ri_ fun v3 M5 =>
      (if v3 = 0 then
       Tr_ wd0 pg0 (dq + 17) 305 [.inr (.inr 6), .inl v2] M5 (ri_ fun v4 M6 =>
        Tr_ wd0 pg0 (dq + 17) 242 [.inr (.inr 6), .inl 44] M6 (ri_ fun v5 M7 =>
         V' 20 [rr 6, ii (or_ mask v4), ii v5, none] [] M7) Qtq) Qtq
      else
       rv_ G [] M5)) Qtq) Qtq) → q20 dq mask 1 N G Qtq := fun hq V' hV' hW' => by
      refine b_304_20 (Tr_mono _) hV' hW' _ _ _ ?_
      rw [if_neg (by decide)]
      refine q_227g (ER_goq hE) ?_
      rw [if_pos rfl]
      exact hq V' hV' hW'
    have sm1 : b = 1 → SMT N a = true := fun hb => by
      have h9 := hS hb
      rw [eNM] at h9
      by_cases c : SMT N a = true
      · exact c
      · rw [if_neg c] at h9; exact absurd rfl h9
    refine y_107 (d := 125) hE (fun hb => by have := hS hb; rw [eNM, if_pos (sm1 hb)] at this; exact bind_n (bind_n this)) (fun hk1 h12 hE1 => ?_) (fun hb hk1 h12 => ?_) (fun hb hk1 => ?_)
    rotate_left
    · have hsp := SQ_bf hE hb (k := 2) (by decide) QA_rf
      exact hQ hb _ (XA_XSb (XF_XA fl_XF)) (fun G Qtq hg => toQ fun V' hV' hW' => j_233r hT hE hb hk1 h12 (q_227s hsp.1 (by rw [if_neg (by decide)]; exact rv_i (hg _ (stopped hsp)))))
    · have hsp := SQ_bf hE hb (k := 1) (by decide) QA_rf
      exact hQ hb _ (XA_XSb (XF_XA fl_XF)) (fun G Qtq hg => toQ fun V' hV' hW' => j_233w hT hE hb hk1 (q_227s hsp.1 (by rw [if_neg (by decide)]; exact rv_i (hg _ (stopped hsp)))))
    have S1 := STA_go h hE1
    have hT1 := S1.1.1.1
    have hV1 := S1.1.1.2.1
    have h91 := S1.1.2.2.2.1
    have n91 : nm9_ (nX_ M) a := ⟨gd_c (nX_ne (by decide)) hE.1, by rw [nX_ne (by decide)]; exact hk1⟩
    have x70 : nX_ M 70 = M 70 := nX_ne (by decide)
    have x151 : nx_ N 151 = N 151 := nx_ne (by decide)
    have est : ∀ v, stt (nx_ N) v = stt N v := fun v => stt_a (QF_QA nx_QF)
    have m1 : MKS (nX_ M) mask := by
      unfold MKS; rw [nX_1 (by decide), nX_1 (by decide), nX_ne (by decide)]; exact hm
    have q5 : ∀ {G : mm_ → Prop} {Qtq : qt_}, (∀ V' : vv_, Cl_ wd0 (Tr_ wd0 pg0 (dq + 17)) V' (rv_ G) Qtq m_304 → Wk_ V' → Tr_ wd0 pg0 (dq + 17) 305 [.inr (.inr 6), .inl a] (nx_ N) (ri_ fun v4 M6 => Tr_ wd0 pg0 (dq + 17) 242 [.inr (.inr 6), .inl 44] M6 (ri_ fun v5 M7 => V' 20 [rr 6, ii (or_ mask v4), ii v5, none] [] M7) Qtq) Qtq) → q20 dq mask 1 N G Qtq := fun hq => toQ fun V' hV' hW' => j_233t hT hE hk1 h12 (q_227g (ER_goq hE1) (by rw [if_pos rfl]; exact hq V' hV' hW'))
    -- behind a state's name
    have tail : ∀ (k : Int) (M1 N1 : mm_), STA b F M1 N1 (a + 1) (ee - 1) → NMF b M N M1 N1 → M1 1 34 = mask → (0 ≤ k ∧ k < M1 123 (M 1 18)) → stt N1 (N1 151 a) ≠ -1 → (∀ (G : mm_ → Prop) (Qtq : qt_), (∀ V' : vv_, Cl_ wd0 (Tr_ wd0 pg0 (dq + 17)) V' (rv_ G) Qtq m_304 → Wk_ V' → Tr_ wd0 pg0 (dq + 17) 242 [.inr (.inr 6), .inl 44] N1 (ri_ fun v5 M7 => V' 20 [rr 6, ii (or_ mask (sl_ 1 k)), ii v5, none] [] M7) Qtq) → q20 dq mask 1 N G Qtq) →
        V 134 [rr 1, ii 1, ii a, ii k] [] M1 := fun k M1 N1 S2 f2 e34 hk hst q6 => by
      have e18 : M1 1 18 = M 1 18 := f2.1.2.1 18 (by decide)
      have s9 := S2.1.2.2.2.1.1
      rw [e18] at s9
      have m2 := MKS_or (M1 := M1) hm hk s9.2.1 f2.2.2.2.1.2.2.1 e18
      have S3 : STA b F (up_ M1 1 34 (or_ mask (sl_ 1 k))) N1 (a + 1) (ee - 1) := STA_34 S2
      have f3 : NMF b M N (up_ M1 1 34 (or_ mask (sl_ 1 k))) N1 := NMF_tr hV0.2.2.1 (by rw [up_ne (by decide)]; exact s9.2.1) f2 NMF_34
      refine b_167_134 (Tr_mono _) hV hW _ _ _ _ ?_
      rw [e34]
      have u70 : up_ M1 1 34 (or_ mask (sl_ 1 k)) 70 = M 70 := XSb_r f3.1 (by decide)
      have n151 : N1 151 = N 151 := QSb_r f3.2.1 (by decide)
      have n61 : N1 6 61 = N 6 61 := f3.2.1.2 61 (by decide)
      generalize up_ M1 1 34 (or_ mask (sl_ 1 k)) = M3 at *
      have hE3 := TS_E S3.1
      have hT3 := S3.1.1.1
      have e18' : M3 1 18 = M 1 18 := f3.1.2.1 18 (by decide)
      have smN : b = 1 → SMT N1 = SMT N := fun hb => by
        obtain ⟨_, _, g3, g4⟩ := f3.2.2.2.2.1 hb
        unfold SMT stt
        rw [n151, g4 61 (by decide), g3 179 (by decide), g3 174 (by decide)]
      have ok1 : ∀ sm, SOK b sm N N1 → sm a = true := fun sm hs => by
        rcases h01 with hb | hb
        · exact hs.1 hb a hst
        · rw [hs.2 hb]; exact sm1 hb
      refine y_117 hE3 (by decide) (fun c => ?_) (fun c => ?_)
      · have c' : M 70 (a + 1) = 244 := by rw [← u70]; exact c
        have eN2 : ∀ sm, sm a = true → NM (M 70) sm a = (gS (a + 1)).bind (NM (M 70) sm) := fun sm hs => by rw [eNM, if_pos hs, tS_e hk1 h12, Option.bind_some, if_pos c']
        rw [if_neg (by decide)]
        refine y_105 hE3 (by rw [c]; decide) (fun hb => by have := hS hb; rw [eN2 _ (sm1 hb)] at this; exact bind_n (bind_n this)) (fun h13 hE4 => ?_) (fun hb h13 => ?_)
        · have S4 := STA_go S3 hE4
          have m4 : MKS (nX_ M3) (or_ mask (sl_ 1 k)) := by unfold MKS; rw [nX_1 (by decide), nX_1 (by decide), nX_ne (by decide)]; exact m2
          have s94 := S4.1.2.2.2.1.1
          have f4 : NMF b M N (nX_ M3) (nx_ N1) := NMF_tr hV0.2.2.1 (by rw [nX_1 (by decide), e18'] at s94; exact s94.2.1) f3 NMF_go
          have y70 : nX_ M3 70 = M 70 := by rw [nX_ne (by decide)]; exact u70
          have q7 : ∀ (G : mm_ → Prop) (Qtq : qt_), q20 dq (or_ mask (sl_ 1 k)) 1 (nx_ N1) G Qtq → q20 dq mask 1 N G Qtq := fun G Qtq hq => q6 G Qtq fun V' hV' hW' => j_242t hT3 hE3 (by decide) c h13 (hq V' hV' hW')
          have sm4 : SMT (nx_ N1) = SMT N1 := by
            unfold SMT; rw [nx_ne (r := 151) (by decide)]; funext t; rw [stt_a (QF_QA nx_QF)]
          refine l_47 hV hW n (a + 1 + 1) (ee - 1 - 1) _ (nX_ M3) (nx_ N1) (by omega) S4 m4 (fun hb => ?_) (fun M' N' a' mask' S' m' ha' f' sy hq => ?_) (fun hb Mx' hx hq => ?_)
          · have := hS hb
            rw [eN2 _ (sm1 hb), gS_e h13, Option.bind_some] at this
            rw [y70, sm4, smN hb]; exact this
          · have s9' := S'.1.2.2.2.1.1
            have e8 : M' 1 18 = M 1 18 := by rw [f'.1.2.1 18 (by decide), f4.1.2.1 18 (by decide)]
            rw [e8] at s9'
            have e84 : nX_ M3 1 18 = M 1 18 := f4.1.2.1 18 (by decide)
            refine hK M' N' a' mask' (STA_le S' (by omega)) m' (by omega) (NMF_tr hV0.2.2.1 s9'.2.1 f4 f') (fun sm hs => ?_) (fun G Qtq hg => q7 G Qtq (hq G Qtq hg))
            have mono : ∀ v, b = 0 → stt (nx_ N1) v ≠ -1 → stt N' v ≠ -1 := fun v hb hv => by
              have z := S4.1.2.2.2.1.1
              have z' := S'.1.2.2.2.1.1
              have hv4 := S4.1.1.2.1.2.1
              exact stt_m (M := nX_ M3) (M1 := M') (b := b) hv4 (f'.2.1.2 61 (by decide)) z.2.2 z.1 (by rw [e84, ← e8]; exact z'.2.2) f'.2.2.2.1 hv
            have o := SOK_s (N1 := nx_ N1) (N2 := N') (Mq := N) (QSb_r f'.2.1 (by decide)) mono (fun hb => sm4.trans (smN hb)) hs
            have ok : sm a = true := ok1 sm ⟨fun hb t ht => o.1.1 hb t (by rw [nx_ne (r := 151) (by decide), stt_a (QF_QA nx_QF)]; exact ht), hs.2⟩
            have e := sy sm o.2
            rw [y70] at e
            rw [eN2 sm ok, gS_e h13, Option.bind_some]; exact e
          · exact hQ hb Mx' (XSb_tr f4.1 hx) (fun G Qtq hg => q7 G Qtq (hq G Qtq fun M' p => hg _ ⟨p.1, p.2.1, p.2.2.1, p.2.2.2.1, QSb_tr f4.2.1 p.2.2.2.2⟩))
        · have hsp := SQ_bf hE3 hb (k := 2) (by decide) QA_rf
          exact hQ hb _ (XSb_tr f3.1 (XA_XSb (XF_XA fl_XF))) (fun G Qtq hg => q6 G Qtq fun V' hV' hW' => j_242r hT3 hE3 hb (by decide) c h13 (q20_s hV' hW' hsp.1 (hg _ ⟨hsp.1, hsp.2.1, hsp.2.2.1, hsp.2.2.2.1, QSb_tr f3.2.1 (QA_QSb hsp.2.2.2.2)⟩)))
      · have c' : ¬ M 70 (a + 1) = 244 := by rw [← u70]; exact c
        rw [if_pos rfl]
        refine hK M3 N1 (a + 1) _ S3 m2 (by omega) f3 (fun sm hs => ?_) (fun G Qtq hg => q6 G Qtq fun V' hV' hW' => j_242f hT3 hE3 (by decide) c (hg V' hV' hW'))
        rw [eNM, if_pos (ok1 sm hs), tS_e hk1 h12, Option.bind_some, if_neg c']
    refine x_142R (d := 126) hT1 hV1 h91 n91 ?_
    rw [x151, est]
    have r := stt_r hV1 h91 (v := N 151 a)
    rw [est] at r
    have z9 := h91.1
    have e18 : nX_ M 1 18 = M 1 18 := nX_1 (by decide)
    have v61 : nx_ N 6 61 = nX_ M 1 18 := hV1.2.1
    have m8 : nX_ M 1 8 = b := hE1.2.2.2.2.2.2.1
    have n16 : nx_ N 6 16 = b := hE1.2.2.2.2.2.2.2.1
    intro _
    by_cases ck : stt N (N 151 a) = -1
    · have hb : b = 0 := by
        rcases h01 with hb | hb
        · exact hb
        · have := sm1 hb; unfold SMT at this; rw [decide_eq_true_eq] at this; exact absurd ck this
      rw [if_pos (by omega), if_pos ck]
      refine ⟨hV1.1, by have := hV1.2.2; omega, ?_⟩
      by_cases c12 : nX_ M 123 (nX_ M 1 18) = 12
      · rw [if_pos c12]
        refine x_110 ha.1 (by omega) (fun e => absurd e (by decide)) (fun _ => ?_)
        have e150 : nx_ N 150 a = M 71 a := by rw [nx_ne (by decide)]; exact ((hT a hE.1).2.1).symm
        have sp1 : sp_ (bf_ (nx_ N) 2 (M 71 a)) := bf_sp (n16.trans hb) (by decide)
        refine hQ hb _ (XSb_tr (XA_XSb (XF_XA nX_XF)) (XA_XSb (XF_XA fl_XF))) (fun G Qtq hg => q5 fun V' hV' hW' => q_305r hV1 h91 ⟨ha.1, by omega⟩ (n16.trans hb) (hE1.2.2.2.2.2.2.2.2.2.1 hb) (by rw [x151, est]; exact ck) (by rw [v61, z9.2.2]; exact c12) ?_)
        rw [e150]
        refine q_242s sp1 (q20_s hV' hW' sp1 (hg _ ⟨sp1, ?_, ?_, ?_, ?_⟩))
        · unfold in9_; rw [bf_6 (by decide) (by decide), hE1.2.2.1]; omega
        · unfold bf_ flX_; rw [up_off (by decide), up_at, up_off (by decide), up_at]
        · refine ⟨?_, fl_b7 (by assumption)⟩; unfold bf_ flX_; rw [up_at, up_at, nX_ne (by decide)]
        · exact QSb_tr (QA_QSb (QF_QA nx_QF)) (QA_QSb (QF_QA bf_QF))
      · rw [if_neg c12]
        refine x_110 ha.1 (by omega) (fun _ => ?_) (fun e => absurd rfl e)
        have lt12 : nX_ M 123 (nX_ M 1 18) < 12 := by omega
        refine b_167_103 (Tr_mono _) hV hW _ _ _ _ ?_
        have w0 : w32 (w32 (12 * nX_ M 1 18) + nX_ M 123 (nX_ M 1 18)) = 12 * nX_ M 1 18 + nX_ M 123 (nX_ M 1 18) := by
          have := hV1.2.2
          rw [w32_id (x := 12 * nX_ M 1 18) (by omega) (by omega), w32_id (by omega) (by omega)]
        rw [w0, w32_id (x := nX_ M 123 (nX_ M 1 18) + 1) (by omega) (by omega)]
        refine ⟨by have := hV1.2.2; omega, hV1.1, by have := hV1.2.2; omega, by have := hV1.2.2; omega, ?_⟩
        have S2 := STA_ns S1 hb lt12 n91
        have f2 : NMF b M N (nsX (nX_ M) a) (nsQ (nx_ N) a) := by
          have fn : NMF b (nX_ M) (nx_ N) (nsX (nX_ M) a) (nsQ (nx_ N) a) := ⟨ns_X, ns_Q, (LKP_X (nsX_r (by decide) (by decide)) (nsX_r (by decide) (by decide)) (by rw [nsX_r (by decide) (by decide)]) (by rw [nsX_r (by decide) (by decide)])).1, SNW_ns hb hT1 h91 v61 hV1.2.2.1 lt12 n91, fun hb1 => by omega, nsX_r (by decide) (by decide), by rw [nsX_r (by decide) (by decide)], LBW_e (nsX_r (by decide) (by decide)) (nsX_r (by decide) (by decide)) (nsQ_r (by decide) (by decide) (by decide)) (nsQ_r (by decide) (by decide) (by decide)) (nsQ_r (by decide) (by decide) (by decide)) (fun _ => by rw [nsX_r (by decide) (by decide)]; exact ⟨rfl, rfl⟩)⟩
          have s9 := S2.1.2.2.2.1.1
          rw [nsX_r (r := 1) (by decide) (by decide), e18] at s9
          exact NMF_tr hV0.2.2.1 s9.2.1 NMF_go fn
        have x123 : nsX (nX_ M) a 123 (M 1 18) = nX_ M 123 (nX_ M 1 18) + 1 := by unfold nsX; rw [e18, up_at]
        have q174 : nsQ (nx_ N) a 174 (nx_ N 6 61) = nx_ N 174 (nx_ N 6 61) + 1 := by unfold nsQ; rw [up_at]
        have nst : stt (nsQ (nx_ N) a) (nsQ (nx_ N) a 151 a) ≠ -1 := by
          intro e
          unfold stt at e
          have e6 : nsQ (nx_ N) a 6 61 = nx_ N 6 61 := by rw [nsQ_r (by decide) (by decide) (by decide)]
          rw [e6, q174] at e
          have z0 : 0 ≤ nx_ N 174 (nx_ N 6 61) := by rw [v61]; omega
          have := fi_no _ _ _ _ e (Int.le_refl _) (nx_ N 174 (nx_ N 6 61)) z0 (by omega)
          apply this
          show nsQ (nx_ N) a 179 (12 * nx_ N 6 61 + nx_ N 174 (nx_ N 6 61)) = nsQ (nx_ N) a 151 a
          rw [nsQ_r (r := 151) (by decide) (by decide) (by decide)]
          unfold nsQ; rw [up_ne (by decide), up_ne (by decide), up_at]
        refine tail (nX_ M 123 (nX_ M 1 18)) (nsX (nX_ M) a) (nsQ (nx_ N) a) S2 f2 (by rw [nsX_r (by decide) (by decide)]; exact m1.2.1) (by rw [x123]; omega) nst (fun G Qtq hq => q5 fun V' hV' hW' => ?_)
        refine q_305n hV1 h91 ⟨ha.1, by omega⟩ (n16.trans hb) (by rw [x151, est]; exact ck) (by rw [v61, z9.2.2]; exact lt12) ?_
        have e174 : nx_ N 174 (nx_ N 6 61) = nX_ M 123 (nX_ M 1 18) := by rw [v61, z9.2.2]
        rw [e174]
        exact hq V' hV' hW'
    · have hk : 0 ≤ stt N (N 151 a) ∧ stt N (N 151 a) < nX_ M 123 (M 1 18) := by
        rcases r with r | r
        · exact absurd r ck
        · rw [v61, z9.2.2, e18] at r; exact r
      have T := tail (stt N (N 151 a)) (nX_ M) (nx_ N) S1 NMF_go m1.2.1 hk (by rw [x151, est]; exact ck) (fun G Qtq hq => q5 fun V' hV' hW' => q_305k hV1 h91 ⟨ha.1, by omega⟩ (by rw [x151, est]; exact ck) (by rw [x151, est]; exact hq V' hV' hW'))
      rcases h01 with hb | hb
      · rw [if_pos (by omega), if_neg ck]; exact T
      · rw [if_neg (by omega)]; exact T
end SP
end T221_sn
section T222_st
/-! a state whole (X 167 | Q 304) -/
def hdS (κ : Int → Int) (sm : Int → Bool) (a : Int) : Option Int := if κ a = 242 then gS a else NM κ sm a
def sttS (κ ν : Int → Int) (lm : Int → Int → Bool) (sm : Int → Bool) (s : sj_) : Option sj_ := (gS s.1).bind fun a1 => (hdS κ sm a1).bind fun a2 => (tS κ 259 a2).bind fun a3 => LNS κ ν lm (a3, s.2)
def qST (dq : Nat) (N : mm_) (G : mm_ → Prop) (Qt : qt_) : Prop := Tr_ wd0 pg0 (dq + 18) 228 [.inr (.inr 6), .inl 6] N (ri_ fun v4 M4 => if v4 = 0 then False else Tr_ wd0 pg0 (dq + 18) 304 [.inr (.inr 6)] M4 (rv_ G) Qt) Qt
def STF (b F F' : Int) (Mx Mq M N : mm_) : Prop := XSb Mx M ∧ QSb Mq N ∧ LKP b Mx M ∧ SNW b Mx Mq M N ∧ (F' ≤ F ∧ (b = 1 → F' = F)) ∧ LBW b Mx Mq M N
section SQs
variable {d dq : Nat} {b F F' F2 : Int} {M N M1 N1 M2 N2 Mx Mq : mm_} {a a' ee mask : Int} {Kv G : mm_ → Prop} {Qt Qtq : qt_} {V : vv_} {sm : Int → Bool}
theorem XSb_nX [Inhabited gh_] : XSb M (nX_ M) := XA_XSb (XF_XA nX_XF)
theorem XSb_34 [Inhabited gh_] {v : Int} : XSb M (up_ M 1 34 v) := ⟨fun r hr => up_ne (fun h => hr (by rw [h]; decide)), fun i hi => up_off (nm_i hi (by decide)), fun i _ _ => by rw [up_ne (by decide)]⟩
theorem SS_STA [Inhabited gh_] (h : SS b F M N a mask ee) : STA b F M N a ee := ⟨h.1, h.2.1, fun hb => ⟨(h.2.2.2 hb).1, (h.2.2.2 hb).2.1⟩⟩
theorem STF_tr [Inhabited gh_] (hT : 0 ≤ Mx 1 18) (h12 : M1 123 (Mx 1 18) ≤ 12) (h1 : STF b F F' Mx Mq M N) (h2 : STF b F' F2 M N M1 N1) : STF b F F2 Mx Mq M1 N1 := ⟨XSb_tr h1.1 h2.1, QSb_tr h1.2.1 h2.2.1, LKP_tr h1.2.2.1 h2.2.2.1, SNW_tr hT h12 (XSb_r h2.1 (by decide)) (h1.1.2.1 18 (by decide)) h1.2.2.2.1 h2.2.2.2.1, ⟨by have := h1.2.2.2.2.1.1; have := h2.2.2.2.2.1.1; omega, fun hb => (h2.2.2.2.2.1.2 hb).trans (h1.2.2.2.2.1.2 hb)⟩, LBW_tr h1.2.2.1 h1.2.2.2.2.2 h2.2.2.2.2.2⟩
theorem STF_n [Inhabited gh_] (h : NMF b M N M1 N1) : STF b F F M N M1 N1 := ⟨h.1, h.2.1, h.2.2.1, h.2.2.2.1, ⟨Int.le_refl _, fun _ => rfl⟩, h.2.2.2.2.2.2.2⟩
theorem STF_l [Inhabited gh_] (h : LNF b F F' M N M1 N1) : STF b F F' M N M1 N1 := ⟨h.1, h.2.1, h.2.2.1, SNW_N h.2.2.2.1, h.2.2.2.2⟩
theorem STF_rf [Inhabited gh_] : STF b F F M N M N := ⟨XSb_rf, QSb_rf, LKP_rf, SNW_rf, ⟨Int.le_refl _, fun _ => rfl⟩, LBW_e rfl rfl rfl rfl rfl (fun _ => ⟨rfl, rfl⟩)⟩
theorem SMT_c [Inhabited gh_] (h : STF b F F' M N M1 N1) (hb : b = 1) : SMT N1 = SMT N := by
  have ns := h.2.2.2.1.2.2.2.2 hb
  unfold SMT stt
  rw [QSb_r h.2.1 (r := 151) (by decide), h.2.1.2 61 (by decide), ns.2.2.1, ns.2.2.2.1]
/-- nothing new in the head -/
theorem PRS_h [Inhabited gh_] (h : HB b M N M1 N1) : PRS b M N M1 N1 := fun hb => by
  obtain ⟨a1, a2, a3, a4⟩ := h hb
  have c : ∀ i : Int, i = 19 ∨ i = 21 ∨ i = 22 ∨ i = 23 ∨ i = 29 → M1 1 i = M 1 i := fun i hi => a2 i (by omega) (by omega)
  refine ⟨⟨OLX_1 a1 (fun i hi => a2 i (nm_i hi (by decide)) (nm_i hi (by decide))), OLQ_6 a3 (fun i hi => a4 i (nm_i hi (by decide)))⟩, by rw [c 29 (by omega), a4 76 (by decide)]; omega, fun hz => ⟨by rw [a4 13 (by decide)] at hz; exact hz, fun k x y => by rw [a4 62 (by decide)] at y; omega, fun l x y => by rw [c 19 (by omega)] at y; omega, fun x p q => by rw [c 29 (by omega)] at q; omega, ?_, ?_⟩⟩
  · unfold SBS
    rw [c 21 (by omega), c 23 (by omega), a4 75 (by decide)]
    refine ⟨fun s _ _ => ⟨fun h => .inl h, fun h => ?_⟩, fun s _ _ => ⟨fun h => .inl h, fun h => ?_⟩⟩
    · rcases h with h | ⟨k, h, _⟩
      · exact h
      · omega
    · rcases h with h | ⟨k, h, _⟩
      · exact h
      · omega
  · intro hg
    rw [c 22 (by omega)]
    refine ⟨hg, fun s _ _ => ⟨fun h => .inl h, fun h => ?_⟩⟩
    rcases h with h | ⟨k, i, hk, _⟩
    · exact h
    · rw [a4 62 (by decide)] at hk; omega
theorem STA_SCL [Inhabited gh_] (h : STA b F M N a ee) (hb : b = 1) : SCL M N := by
  obtain ⟨h1, ⟨s1, s2, s3⟩, h4⟩ := h
  obtain ⟨⟨xs, hs⟩, hl⟩ := h4 hb
  refine ⟨⟨s2.1, s3.1, h1.1.2.2.2.1.1, h1.2.2.2.2.1.2.1, h1.2.2.2.2.1.1.1, h1.2.2.2.2.2.2.2.2.1⟩, fun k k0 k1 => ?_, ?_⟩
  · have r := (hs.2 k k0 k1).2.2.2.1
    have e : agT N k = N 199 k := by
      unfold agT
      by_cases c : k = N 6 62 - 1
      · rw [if_pos c, c, hl (by omega)]
      · rw [if_neg c]
    rw [e] at r
    exact r
  · rw [← SRW_x hs hl _ (by omega), show (((N 6 62).toNat : Nat) : Int) = N 6 62 by omega]; exact hs.1.2.2
theorem q_304z [Inhabited gh_] {d : Nat} (hs : sp_ N) (h : G N) : Tr_ wd0 pg0 (d + 18) 304 [.inr (.inr 6)] N (rv_ G) Qt := t_304 fun V hV hW => b_304_0 (Tr_mono _) hV hW _ (q_242s hs (by rw [if_pos rfl]; exact q20_s (dq := d) hV hW hs h))
theorem y_167 [Inhabited gh_] (h : STA b F Mx Mq a 0) (hk : Mx 70 a = 6) (hS : b = 1 → sttS (Mx 70) (Mx 73) (LMT Mx) (SMT Mq) (a, lc_ b Mx) ≠ none)
    (hK : ∀ F' M' N' a', STA b F' M' N' a' 0 → a + 3 ≤ a' → PRS b Mx Mq M' N' → STF b F F' Mx Mq M' N' → (∀ lm sm, LOK b lm Mx M' → SOK b sm Mq N' → sttS (Mx 70) (Mx 73) lm sm (a, lc_ b Mx) = some (a', lc_ b M')) → (∀ (G : mm_ → Prop) (Qtq : qt_), G N' → qST dq Mq G Qtq) → Kv M')
    (hQ : b = 0 → ∀ Mx', XSb Mx Mx' → (∀ (G : mm_ → Prop) (Qtq : qt_), (∀ M', SQb Mx' Mq M' → G M') → qST dq Mq G Qtq) → Qt 8 Mx') :
    Tr_ wd0 pg0 130 167 [.inr (.inr 1)] Mx (rv_ Kv) Qt := by
  have hE := TS_E h.1
  have hT := h.1.1.1
  have ha := ER_a hE
  have h01 := bl01 hE
  have hV0 := h.1.1.2.1
  have stopped : ∀ {Mx' M2 : mm_}, SQ Mx' Mq M2 → SQb Mx' Mq M2 := fun hs => ⟨hs.1, hs.2.1, hs.2.2.1, hs.2.2.2.1, QA_QSb hs.2.2.2.2⟩
  refine t_167 fun V hV hW => b_167_0 (Tr_mono _) hV hW _ ?_
  refine y_105 hE (by omega) (fun hb => bind_n (hS hb)) (fun h12 hE1 => ?_) (fun hb h12 => ?_)
  rotate_left
  · have hsp := SQ_bf hE hb (k := 2) (by decide) QA_rf
    exact hQ hb _ (XA_XSb (XF_XA fl_XF)) (fun G Qtq hg => j_228r hT hE hb (by decide) hk h12 (by rw [if_neg (by decide)]; exact q_304z hsp.1 (hg _ (stopped hsp))))
  have eS : ∀ lm sm j, sttS (Mx 70) (Mx 73) lm sm (a, j) = (hdS (Mx 70) sm (a + 1)).bind fun a2 => (tS (Mx 70) 259 a2).bind fun a3 => LNS (Mx 70) (Mx 73) lm (a3, j) := fun lm sm j => by unfold sttS; rw [gS_e h12, Option.bind_some]
  have S1 : STA b F (up_ (nX_ Mx) 1 34 0) (nx_ Mq) (a + 1) (0 - 1) := STA_34 (STA_go h hE1)
  have hE1' := TS_E S1.1
  have hT1 := S1.1.1.1
  have u12 : ∀ {M1 N1 : mm_} {a1 e1 F1 : Int}, STA b F1 M1 N1 a1 e1 → XSb Mx M1 → M1 123 (Mx 1 18) ≤ 12 := fun hs hx => by
    have := hs.1.2.2.2.1.1
    rw [hx.2.1 18 (by decide)] at this; exact this.2.1
  have f1 : NMF b Mx Mq (up_ (nX_ Mx) 1 34 0) (nx_ Mq) := NMF_tr hV0.2.2.1 (u12 S1 (XSb_tr XSb_nX XSb_34)) NMF_go NMF_34
  have m1 : MKS (up_ (nX_ Mx) 1 34 0) 0 := ⟨by decide, up_at, fun l _ e => absurd e bt_0⟩
  have x70 : up_ (nX_ Mx) 1 34 0 70 = Mx 70 := XSb_r f1.1 (by decide)
  have toQ : ∀ {G : mm_ → Prop} {Qtq : qt_}, (∀ V' : vv_, Cl_ wd0 (Tr_ wd0 pg0 (dq + 17)) V' (rv_ G) Qtq m_304 → Wk_ V' → V' 0 [rr 6, none, none, none] [] (nx_ Mq)) → qST dq Mq G Qtq := fun hq => j_228t hT hE (by decide) hk h12 (by
    rw [if_neg (by decide)]
    exact t_304 fun V' hV' hW' => hq V' hV' hW')
  have bnd := S1.2.1
  -- from the semicolon on
  have rest : ∀ (M2 N2 : mm_) (a2 mask : Int), SS b F M2 N2 a2 mask (-2) → a + 2 ≤ a2 → NMF b Mx Mq M2 N2 → (∀ sm, SOK b sm Mq N2 → hdS (Mx 70) sm (a + 1) = some a2) → (∀ (G : mm_ → Prop) (Qtq : qt_), (∀ V' : vv_, Cl_ wd0 (Tr_ wd0 pg0 (dq + 17)) V' (rv_ G) Qtq m_304 → Wk_ V' → Tr_ wd0 pg0 (dq + 17) 244 [.inr (.inr 6), .inl 59] N2 (rv_ fun M1 => V' 70 [rr 6, ii mask, ii 1, none] [] M1) Qtq) → qST dq Mq G Qtq) →
      Tr_ wd0 pg0 129 121 [.inr (.inr 1), .inl 59] M2 (rv_ fun M4 => V 172 [rr 1, ii 1, none, none] [] M4) Qt := fun M2 N2 a2 mask S2 ha2 f2 sy2 q2 => by
    have hE2 := TS_E S2.1
    have hT2 := S2.1.1.1
    have y70 : M2 70 = Mx 70 := XSb_r f2.1 (by decide)
    have y73 : M2 73 = Mx 73 := XSb_r f2.1 (by decide)
    have lc2 : lc_ b M2 = lc_ b Mx := by
      unfold lc_; rw [f2.2.2.2.2.2.1, f2.2.2.2.2.2.2.1, f2.1.2.1 18 (by decide)]
    have eS2 : ∀ lm sm j, SOK b sm Mq N2 → sttS (Mx 70) (Mx 73) lm sm (a, j) = (tS (Mx 70) 259 a2).bind fun a3 => LNS (Mx 70) (Mx 73) lm (a3, j) := fun lm sm j hs => by rw [eS, sy2 sm hs, Option.bind_some]
    have sok1 : b = 1 → SOK b (SMT Mq) Mq N2 := fun hb => ⟨fun hb0 => by omega, fun _ => rfl⟩
    refine y_121 hE2 (by decide) (fun hb => by have := hS hb; rw [eS2 _ _ _ (sok1 hb)] at this; rw [y70]; exact bind_n this) (fun k2 h13 hE3 => ?_) (fun hb k2 h13 => ?_) (fun hb k2 => ?_)
    · have k2' : Mx 70 a2 = 259 := by rw [← y70]; exact k2
      have eS3 : ∀ lm sm j, SOK b sm Mq N2 → sttS (Mx 70) (Mx 73) lm sm (a, j) = LNS (Mx 70) (Mx 73) lm (a2 + 1, j) := fun lm sm j hs => by rw [eS2 lm sm j hs, tS_e k2' h13, Option.bind_some]
      have S3 : SS b F (nX_ M2) (nx_ N2) (a2 + 1) mask 0 := SS_le (SS_go S2 hE3) (by decide)
      have f3 : NMF b Mx Mq (nX_ M2) (nx_ N2) := NMF_tr hV0.2.2.1 (u12 (SS_STA S3) (XSb_tr f2.1 XSb_nX)) f2 NMF_go
      have z70 : nX_ M2 70 = Mx 70 := by rw [nX_ne (by decide)]; exact y70
      have z73 : nX_ M2 73 = Mx 73 := by rw [nX_ne (by decide)]; exact y73
      have lc3 : lc_ b (nX_ M2) = lc_ b Mx := (LKP_F (b := b) (nX_XF (M := M2))).2.trans lc2
      have q3 : ∀ (G : mm_ → Prop) (Qtq : qt_), q70 dq mask 1 (nx_ N2) G Qtq → qST dq Mq G Qtq := fun G Qtq hq => q2 G Qtq fun V' hV' hW' => j_244t hT2 hE2 (by decide) k2 h13 (hq V' hV' hW')
      refine l_172 (dq := dq) hV hW 1201 (a2 + 1) F (nX_ M2) (nx_ N2) (by have := ER_a hE3; omega) S3 (fun hb => ?_) (fun F' M' N' a' S' ha' P' L' h7 sy' hq' => ?_) (fun hb Mx' hx hq => ?_)
      · have h9 := hS hb
        rw [eS3 _ _ _ (sok1 hb)] at h9
        rw [z70, z73, lc3, f3.2.2.1.2.2.2 hb]; exact h9
      · have L9 := STF_l L'
        have f9 : STF b F F' Mx Mq M' N' := STF_tr hV0.2.2.1 (u12 (SS_STA S') (XSb_tr f3.1 L'.1)) (STF_n (F := F) f3) L9
        refine hK F' M' N' a' (SS_STA S') (by omega) (PRS_tr (fun hb => STA_SCL h hb) (fun hb => SS_SCL S3 hb) (PRS_h f3.2.2.2.2.1) P') f9 (fun lm sm hlm hsm => ?_) (fun G Qtq hg => q3 G Qtq (hq' G Qtq hg))
        have l := LOK_s f3.2.2.1 L'.2.2.1 hlm
        have e := sy' lm l.2
        rw [z70, z73, lc3] at e
        rw [eS3 lm sm _ ?_]
        · exact e
        · have nst := L'.2.2.2.1
          refine ⟨fun hb t ht => hsm.1 hb t ?_, hsm.2⟩
          have e1 : ∀ v, stt N' v = stt N2 v := fun v => by
            unfold stt
            rw [nst.2.2.1, nst.2.2.2.1, L'.2.1.2 61 (by decide), nx_ne (r := 179) (by decide), nx_ne (r := 174) (by decide), nx_6 (by decide)]
          rw [e1, QSb_r L'.2.1 (r := 151) (by decide), nx_ne (r := 151) (by decide)]; exact ht
      · exact hQ hb Mx' (XSb_tr f3.1 hx) (fun G Qtq hg => q3 G Qtq (hq G Qtq fun M' p => hg _ ⟨p.1, p.2.1, p.2.2.1, p.2.2.2.1, QSb_tr f3.2.1 p.2.2.2.2⟩))
    · have hsp := SQ_bf hE2 hb (k := 2) (by decide) QA_rf
      exact hQ hb _ (XSb_tr f2.1 (XA_XSb (XF_XA fl_XF))) (fun G Qtq hg => q2 G Qtq fun V' hV' hW' => j_244r hT2 hE2 hb (by decide) k2 h13 (q70_s hV' hW' hsp.1 (hg _ ⟨hsp.1, hsp.2.1, hsp.2.2.1, hsp.2.2.2.1, QSb_tr f2.2.1 (QA_QSb hsp.2.2.2.2)⟩)))
    · have hsp := SQ_bf hE2 hb (k := 1) (by decide) QA_rf
      exact hQ hb _ (XSb_tr f2.1 (XA_XSb (XF_XA fl_XF))) (fun G Qtq hg => q2 G Qtq fun V' hV' hW' => j_244w hT2 hE2 hb (by decide) k2 (q70_s hV' hW' hsp.1 (hg _ ⟨hsp.1, hsp.2.1, hsp.2.2.1, hsp.2.2.2.1, QSb_tr f2.2.1 (QA_QSb hsp.2.2.2.2)⟩)))
  refine y_117 hE1' (by decide) (fun c => ?_) (fun c => ?_)
  · -- '*'
    rw [if_neg (by decide)]
    have c' : Mx 70 (a + 1) = 242 := by rw [← x70]; exact c
    have eH : ∀ sm, hdS (Mx 70) sm (a + 1) = gS (a + 1) := fun sm => by unfold hdS; rw [if_pos c']
    refine y_105 hE1' (by rw [c]; decide) (fun hb => by have := hS hb; rw [eS, eH] at this; exact bind_n this) (fun h13 hE2 => ?_) (fun hb h13 => ?_)
    · have S2 := STA_go S1 hE2
      have v2 := S2.1.1.2.1
      refine ⟨v2.1, by have := v2.2.2; omega, ?_⟩
      have S3 : STA b F (up_ (nX_ (up_ (nX_ Mx) 1 34 0)) 1 34 (w32 (sl_ 1 (nX_ (up_ (nX_ Mx) 1 34 0) 123 (nX_ (up_ (nX_ Mx) 1 34 0) 1 18)) - 1))) (nx_ (nx_ Mq)) (a + 1 + 1) (0 - 1 - 1) := STA_34 S2
      have S4 := STA_SA S3 (by rw [up_at, up_ne (by decide), up_off (by decide)])
      have f3 : NMF b Mx Mq (up_ (nX_ (up_ (nX_ Mx) 1 34 0)) 1 34 (w32 (sl_ 1 (nX_ (up_ (nX_ Mx) 1 34 0) 123 (nX_ (up_ (nX_ Mx) 1 34 0) 1 18)) - 1))) (nx_ (nx_ Mq)) := NMF_tr hV0.2.2.1 (u12 S3 (XSb_tr f1.1 (XSb_tr XSb_nX XSb_34))) f1 (NMF_tr (by rw [f1.1.2.1 18 (by decide)]; exact hV0.2.2.1) (by have := u12 S3 (XSb_tr f1.1 (XSb_tr XSb_nX XSb_34)); rw [f1.1.2.1 18 (by decide)]; exact this) NMF_go NMF_34)
      refine rest _ (nx_ (nx_ Mq)) (a + 1 + 1) 4095 S4 (by omega) f3 (fun sm _ => by rw [eH]; exact gS_e h13) (fun G Qtq hq => toQ fun V' hV' hW' => b_304_0 (Tr_mono _) hV' hW' _ ?_)
      refine j_242t hT1 hE1' (by decide) c h13 ?_
      rw [if_neg (by decide)]
      exact hq V' hV' hW'
    · have hsp := SQ_bf hE1' hb (k := 2) (by decide) QA_rf
      refine hQ hb _ (XSb_tr f1.1 (XA_XSb (XF_XA fl_XF))) (fun G Qtq hg => toQ fun V' hV' hW' => b_304_0 (Tr_mono _) hV' hW' _ ?_)
      refine j_242r hT1 hE1' hb (by decide) c h13 ?_
      rw [if_neg (by decide)]
      exact q_244s hsp.1 (q70_s hV' hW' hsp.1 (hg _ ⟨hsp.1, hsp.2.1, hsp.2.2.1, hsp.2.2.2.1, QSb_tr f1.2.1 (QA_QSb hsp.2.2.2.2)⟩))
  · rw [if_pos rfl]
    have c' : ¬ Mx 70 (a + 1) = 242 := by rw [← x70]; exact c
    have eH : ∀ sm, hdS (Mx 70) sm (a + 1) = NM (Mx 70) sm (a + 1) := fun sm => by unfold hdS; rw [if_neg c']
    have q1 : ∀ (G : mm_ → Prop) (Qtq : qt_), q20 dq 0 1 (nx_ Mq) G Qtq → qST dq Mq G Qtq := fun G Qtq hq => toQ fun V' hV' hW' => b_304_0 (Tr_mono _) hV' hW' _ (j_242f hT1 hE1' (by decide) c (by rw [if_pos rfl]; exact hq V' hV' hW'))
    have sm1 : SMT (nx_ Mq) = SMT Mq := by
      unfold SMT; rw [nx_ne (r := 151) (by decide)]; funext t; rw [stt_a (QF_QA nx_QF)]
    refine l_47 (dq := dq) hV hW 1201 (a + 1) (0 - 1) 0 (up_ (nX_ Mx) 1 34 0) (nx_ Mq) (by omega) S1 m1 (fun hb => ?_) (fun M2 N2 a2 mask S2 m2 ha2 f2 sy hq => ?_) (fun hb Mx' hx hq => ?_)
    · have h9 := hS hb
      rw [eS, eH] at h9
      rw [x70, sm1]
      exact fun e => h9 (by
        cases e2 : NM (Mx 70) (SMT Mq) (a + 1) with
        | none => rfl
        | some x =>
          rw [e2, Option.bind_some] at e
          rw [Option.bind_some, e]; rfl)
    · rw [x70] at sy
      have e18 : up_ (nX_ Mx) 1 34 0 1 18 = Mx 1 18 := f1.1.2.1 18 (by decide)
      have f3 : NMF b Mx Mq M2 N2 := NMF_tr hV0.2.2.1 (u12 S2 (XSb_tr f1.1 f2.1)) f1 f2
      refine b_167_47 (Tr_mono _) hV hW _ _ ?_
      rw [if_pos rfl]
      refine rest M2 N2 a2 mask (STA_SS S2 m2) (by omega) f3 (fun sm hs => ?_) (fun G Qtq hg => q1 G Qtq (hq G Qtq fun V' hV' hW' => b_304_20 (Tr_mono _) hV' hW' _ _ _ (by rw [if_pos rfl]; exact hg V' hV' hW')))
      rw [eH]
      exact sy sm ⟨hs.1, fun hb => by rw [sm1]; exact hs.2 hb⟩
    · exact hQ hb Mx' (XSb_tr f1.1 hx) (fun G Qtq hg => q1 G Qtq (hq G Qtq fun M' p => hg _ ⟨p.1, p.2.1, p.2.2.1, p.2.2.2.1, QSb_tr f1.2.1 p.2.2.2.2⟩))
end SQs
end T222_st
section T223_ps
/-! the states of a process and its end (X 126 V 461 | Q 252 V 259) -/
def psT (κ ν : Int → Int) (lm : Int → Int → Bool) (sm : Int → Bool) (s : sj_) : Option (sj_ ⊕ sj_) := if κ s.1 = 6 then (sttS κ ν lm sm s).bind fun r => some (.inl r) else (tS κ 20 s.1).bind fun a1 => (tS κ 259 a1).bind fun a2 => some (.inr (a2, s.2))
def PSS (κ ν : Int → Int) (lm : Int → Int → Bool) (sm : Int → Bool) (s : sj_) : Option sj_ := LQ (psT κ ν lm sm) s
section PSs
variable {κ ν : Int → Int} {lm : Int → Int → Bool} {sm : Int → Bool} {a j : Int} {s r : sj_}
theorem LNS_s [Inhabited gh_] (h0 : 0 ≤ s.1) (h1 : s.1 ≤ 1200) (h : LNS κ ν lm s = some r) : s.1 ≤ r.1 ∧ r.1 ≤ 1200 := lqS_r (step := lnT κ ν lm) (fun s => s.1) (fun s => s.1) (fun s s' => lnT_l s s') (fun s a h0 h1 h => by
  unfold lnT at h
  split at h
  · obtain ⟨x, e, h⟩ := bind_s h
    injection h with h; cases h
  · split at h
    · obtain ⟨x, e, h⟩ := bind_s h
      injection h with h; cases h
    · split at h
      · obtain ⟨x, e, h⟩ := bind_s h
        injection h with h; cases h
      · split at h
        · obtain ⟨x, e, h⟩ := bind_s h
          injection h with h; cases h
        · injection h with h; injection h with h; rw [← h]; exact ⟨Int.le_refl _, h1⟩) 1300 s r h0 h1 h
theorem NM_s [Inhabited gh_] {a r : Int} (h0 : 0 ≤ a) (h1 : a ≤ 1200) (h : NM κ sm a = some r) : a ≤ r ∧ r ≤ 1200 := lpS_r (step := nmT κ sm) (fun s => s) (fun s s' => nmT_l s s') (fun s a h0 h1 h => by
  unfold nmT at h
  split at h
  · obtain ⟨x, e1, h⟩ := bind_s h
    have t := tS_s e1
    split at h
    · obtain ⟨y, e2, h⟩ := bind_s h
      injection h with h; cases h
    · injection h with h; injection h with h; omega
  · cases h) 1300 a r h0 h1 h
theorem sttS_s [Inhabited gh_] (h0 : 0 ≤ s.1) (h1 : s.1 ≤ 1200) (h : sttS κ ν lm sm s = some r) : s.1 + 1 ≤ r.1 ∧ r.1 ≤ 1200 := by
  unfold sttS at h
  obtain ⟨x, e1, h⟩ := bind_s h
  have g := gS_s e1
  obtain ⟨y, e2, h⟩ := bind_s h
  have g2 : x ≤ y ∧ y ≤ 1200 := by
    unfold hdS at e2
    split at e2
    · have := gS_s e2; omega
    · exact NM_s (by omega) (by omega) e2
  obtain ⟨z, e3, h⟩ := bind_s h
  have g3 := tS_s e3
  have := LNS_s (s := (z, s.2)) (show (0 : Int) ≤ z by omega) (show z ≤ 1200 by omega) h
  have : z ≤ r.1 ∧ r.1 ≤ 1200 := this
  omega
theorem psT_l [Inhabited gh_] (s s' : sj_) (h0 : 0 ≤ s.1) (h1 : s.1 ≤ 1200) (h : psT κ ν lm sm s = some (.inl s')) : s.1 + 1 ≤ s'.1 ∧ s'.1 ≤ 1200 := by
  unfold psT at h
  split at h
  · obtain ⟨x, e, h⟩ := bind_s h
    injection h with h; injection h with h; rw [← h]; exact sttS_s h0 h1 e
  · obtain ⟨x, e, h⟩ := bind_s h
    obtain ⟨y, e, h⟩ := bind_s h
    injection h with h; cases h
theorem PSS_u [Inhabited gh_] (h0 : 0 ≤ a) (h1 : a ≤ 1200) : PSS κ ν lm sm (a, j) = (psT κ ν lm sm (a, j)).bind (lk9 (PSS κ ν lm sm)) := LQ_u (step := psT κ ν lm sm) (fun s => s.1) (fun s s' => psT_l s s') (s := (a, j)) h0 h1
theorem PSS_6 [Inhabited gh_] (h0 : 0 ≤ a) (h1 : a ≤ 1200) (hk : κ a = 6) : PSS κ ν lm sm (a, j) = (sttS κ ν lm sm (a, j)).bind (PSS κ ν lm sm) := by
  have y : ∀ {L : sj_ → Option sj_} {X : Option sj_}, psT κ ν lm sm (a, j) = (X.bind fun r => some (.inl r)) → (psT κ ν lm sm (a, j)).bind (lk9 L) = X.bind L := fun hX => by
    rw [hX]
    rename_i L X
    cases X with
    | none => rfl
    | some x => rfl
  exact (PSS_u h0 h1).trans (y (by unfold psT; rw [if_pos hk]))
theorem PSS_0 [Inhabited gh_] (h0 : 0 ≤ a) (h1 : a ≤ 1200) (hk : κ a ≠ 6) : PSS κ ν lm sm (a, j) = (tS κ 20 a).bind fun a1 => (tS κ 259 a1).bind fun a2 => some (a2, j) := by
  have y : ∀ {L : sj_ → Option sj_} {X : Option Int}, psT κ ν lm sm (a, j) = (X.bind fun a1 => (tS κ 259 a1).bind fun a2 => some (.inr (a2, j))) → (psT κ ν lm sm (a, j)).bind (lk9 L) = X.bind fun a1 => (tS κ 259 a1).bind fun a2 => some (a2, j) := fun hX => by
    rw [hX]
    rename_i L X
    cases X with
    | none => rfl
    | some x =>
      rw [Option.bind_some, Option.bind_some]
      cases tS κ 259 x with
      | none => rfl
      | some z => rfl
  exact (PSS_u h0 h1).trans (y (by unfold psT; rw [if_neg hk]))
end PSs
def q59 (dq : Nat) (x1 x2 x3 x4 x5 x6 : Int) (N : mm_) (G : mm_ → Prop) (Qt : qt_) : Prop := ∀ V : vv_, Cl_ wd0 (Tr_ wd0 pg0 (dq + 18)) V (rv_ G) Qt m_252 → Wk_ V → V 259 [rr 6, ii x1, ii x2, ii x3, ii x4, ii x5, ii x6] [] N
def R461 (Kv : mm_ → Prop) (Qt : qt_) (M3 : mm_) : Prop := bl_ (M3 1 8) → (if M3 1 8 = 0 then rv_ Kv [] M3 else Tr_ wd0 pg0 130 178 [.inr (.inr 1)] M3 (rv_ fun M4 => rv_ Kv [] M4) Qt)
section PU
variable {dq : Nat} {b : Int} {x1 x2 x3 x4 x5 x6 y1 y2 y3 : Int} {Kv G : mm_ → Prop} {Qt Qtq : qt_} {V : vv_} {N : mm_}
theorem q59_s [Inhabited gh_] {V' : vv_} (hV : Cl_ wd0 (Tr_ wd0 pg0 (dq + 18)) V' (rv_ G) Qtq m_252) (hW : Wk_ V') (hs : sp_ N) (h : G N) : V' 259 [rr 6, ii x1, ii x2, ii x3, ii x4, ii x5, ii x6] [] N := b_252_259 (Tr_mono _) hV hW _ _ _ _ _ _ _ (q_228s hs (by rw [if_pos rfl]; exact q_250s hs (q_244s hs (rv_i h))))
theorem l_461 [Inhabited gh_] (hV : Cl_ wd0 (Tr_ wd0 pg0 130) V (rv_ Kv) Qt m_126) (hW : Wk_ V) :
    ∀ (n : Nat) (a F : Int) (Mx Mq : mm_), 1201 - a ≤ (n : Int) → STA b F Mx Mq a 0 → (b = 1 → PSS (Mx 70) (Mx 73) (LMT Mx) (SMT Mq) (a, lc_ b Mx) ≠ none) →
    (∀ F' M' N' a', STA b F' M' N' a' 0 → a + 2 ≤ a' → PRS b Mx Mq M' N' → STF b F F' Mx Mq M' N' → (∀ lm sm, LOK b lm Mx M' → SOK b sm Mq N' → PSS (Mx 70) (Mx 73) lm sm (a, lc_ b Mx) = some (a', lc_ b M')) → (∀ (G : mm_ → Prop) (Qtq : qt_), G N' → q59 dq x1 x2 x3 x4 x5 x6 Mq G Qtq) → R461 Kv Qt M') →
    (b = 0 → ∀ Mx', XSb Mx Mx' → (∀ (G : mm_ → Prop) (Qtq : qt_), (∀ M', SQb Mx' Mq M' → G M') → q59 dq x1 x2 x3 x4 x5 x6 Mq G Qtq) → Qt 8 Mx') →
    V 461 [rr 1, ii y1, ii y2, ii y3, none, none, none] [] Mx
  | 0, a, F, Mx, Mq, hn, h, _, _, _ => by have := ER_a (TS_E h.1); omega
  | n + 1, a, F, Mx, Mq, hn, h, hS, hK, hQ => by
    have hE := TS_E h.1
    have hT := h.1.1.1
    have ha := ER_a hE
    have hV0 := h.1.1.2.1
    have u12 : ∀ {M1 N1 : mm_} {a1 e1 F1 : Int}, STA b F1 M1 N1 a1 e1 → XSb Mx M1 → M1 123 (Mx 1 18) ≤ 12 := fun hs hx => by
      have := hs.1.2.2.2.1.1
      rw [hx.2.1 18 (by decide)] at this; exact this.2.1
    refine b_126_461 (Tr_mono _) hV hW _ _ _ _ ?_
    refine y_103 hE (fun c => ?_) (fun c => ?_)
    · rw [if_neg (by decide)]
      have eS : ∀ lm sm, PSS (Mx 70) (Mx 73) lm sm (a, lc_ b Mx) = (sttS (Mx 70) (Mx 73) lm sm (a, lc_ b Mx)).bind (PSS (Mx 70) (Mx 73) lm sm) := fun lm sm => PSS_6 ha.1 ha.2 c
      have toQ : ∀ (G : mm_ → Prop) (Qtq : qt_), (∀ V' : vv_, Cl_ wd0 (Tr_ wd0 pg0 (dq + 18)) V' (rv_ G) Qtq m_252 → Wk_ V' → qST dq Mq (fun M4 => V' 259 [rr 6, ii x1, ii x2, ii x3, ii x4, ii x5, ii x6] [] M4) Qtq) → q59 dq x1 x2 x3 x4 x5 x6 Mq G Qtq := fun G Qtq hq V' hV' hW' => b_252_259 (Tr_mono _) hV' hW' _ _ _ _ _ _ _ (Tr_ri (hq V' hV' hW') (fun v M2 k => by
        by_cases c : v = 0
        · rw [if_pos c] at k; exact k.elim
        · rw [if_neg c] at k ⊢; exact k))
      refine y_167 (dq := dq) h c (fun hb => by have := hS hb; rw [eS] at this; exact bind_n this) (fun F' M9 N9 a9 S9 ha9 P9 f9 sy q9 => ?_) (fun hb Mx' hx hq => ?_)
      · have x70 : M9 70 = Mx 70 := f9.1.1 70 (by decide)
        have x73 : M9 73 = Mx 73 := f9.1.1 73 (by decide)
        refine l_461 hV hW n a9 F' M9 N9 (by omega) S9 (fun hb => ?_) (fun F2 M' N' a' S' ha' P' f' sy' hq' => ?_) (fun hb Mx' hx hq => ?_)
        · have h9 := hS hb
          rw [eS, sy _ _ ⟨fun hb0 => by omega, fun _ => rfl⟩ ⟨fun hb0 => by omega, fun _ => rfl⟩, Option.bind_some] at h9
          rw [x70, x73, f9.2.2.1.2.2.2 hb, SMT_c f9 hb]; exact h9
        · refine hK F2 M' N' a' S' (by omega) (PRS_tr (fun hb => STA_SCL h hb) (fun hb => STA_SCL S9 hb) P9 P') (STF_tr hV0.2.2.1 (u12 S' (XSb_tr f9.1 f'.1)) f9 f') (fun lm sm hlm hsm => ?_) (fun G Qtq hg => toQ G Qtq fun V' hV' hW' => q9 _ _ (hq' G Qtq hg V' hV' hW'))
          have l := LOK_s f9.2.2.1 f'.2.2.1 hlm
          have mono : ∀ v, b = 0 → stt N9 v ≠ -1 → stt N' v ≠ -1 := fun v hb hv => by
            have z := S9.1.2.2.2.1.1
            have z' := S'.1.2.2.2.1.1
            have e8 : M' 1 18 = M9 1 18 := f'.1.2.1 18 (by decide)
            exact stt_m (M := M9) (M1 := M') (b := b) S9.1.1.2.1.2.1 (f'.2.1.2 61 (by decide)) z.2.2 z.1 (by rw [← e8]; exact z'.2.2) f'.2.2.2.1 hv
          have o := SOK_s (N1 := N9) (N2 := N') (Mq := Mq) (QSb_r f'.2.1 (by decide)) mono (fun hb => SMT_c f9 hb) hsm
          have e := sy' lm sm l.2 o.2
          rw [x70, x73] at e
          rw [eS, sy lm sm l.1 o.1, Option.bind_some]; exact e
        · exact hQ hb Mx' (XSb_tr f9.1 hx) (fun G Qtq hg => toQ G Qtq fun V' hV' hW' => q9 _ _ (hq G Qtq (fun M' p => hg _ ⟨p.1, p.2.1, p.2.2.1, p.2.2.2.1, QSb_tr f9.2.1 p.2.2.2.2⟩) V' hV' hW'))
      · exact hQ hb Mx' hx (fun G Qtq hg => toQ G Qtq fun V' hV' hW' => hq _ _ fun M' p => q59_s hV' hW' p.1 (hg _ p))
    · rw [if_pos rfl]
      have eS : ∀ lm sm, PSS (Mx 70) (Mx 73) lm sm (a, lc_ b Mx) = (tS (Mx 70) 20 a).bind fun a1 => (tS (Mx 70) 259 a1).bind fun a2 => some (a2, lc_ b Mx) := fun lm sm => PSS_0 ha.1 ha.2 c
      have toQ : ∀ {G : mm_ → Prop} {Qtq : qt_}, (∀ V' : vv_, Cl_ wd0 (Tr_ wd0 pg0 (dq + 18)) V' (rv_ G) Qtq m_252 → Wk_ V' → Tr_ wd0 pg0 (dq + 18) 250 [.inr (.inr 6), .inl 20] Mq (rv_ fun M2 => Tr_ wd0 pg0 (dq + 18) 244 [.inr (.inr 6), .inl 59] M2 (rv_ fun M3 => rv_ G [] M3) Qtq) Qtq) → q59 dq x1 x2 x3 x4 x5 x6 Mq G Qtq := fun hq V' hV' hW' => b_252_259 (Tr_mono _) hV' hW' _ _ _ _ _ _ _ (j_228f hT hE (by decide) c (by rw [if_pos rfl]; exact hq V' hV' hW'))
      have stopped : ∀ {Mx' M2 : mm_}, SQ Mx' Mq M2 → SQb Mx' Mq M2 := fun hs => ⟨hs.1, hs.2.1, hs.2.2.1, hs.2.2.2.1, QA_QSb hs.2.2.2.2⟩
      refine y_108 hE (by decide) (fun hb => by have := hS hb; rw [eS] at this; exact bind_n this) (fun k1 h12 hE1 => ?_) (fun hb k1 h12 => ?_) (fun hb k1 => ?_)
      rotate_left
      · have hsp := SQ_bf hE hb (k := 2) (by decide) QA_rf
        exact hQ hb _ (XA_XSb (XF_XA fl_XF)) (fun G Qtq hg => toQ fun V' hV' hW' => j_250r hT hE hb (by decide) k1 h12 (q_244s hsp.1 (rv_i (hg _ (stopped hsp)))))
      · have hsp := SQ_bf hE hb (k := 1) (by decide) QA_rf
        exact hQ hb _ (XA_XSb (XF_XA fl_XF)) (fun G Qtq hg => toQ fun V' hV' hW' => j_250w hT hE hb (by decide) k1 (q_244s hsp.1 (rv_i (hg _ (stopped hsp)))))
      have S1 := STA_go h hE1
      have hT1 := S1.1.1.1
      have x70 : nX_ Mx 70 = Mx 70 := nX_ne (by decide)
      have eS1 : ∀ lm sm, PSS (Mx 70) (Mx 73) lm sm (a, lc_ b Mx) = (tS (Mx 70) 259 (a + 1)).bind fun a2 => some (a2, lc_ b Mx) := fun lm sm => by rw [eS, tS_e k1 h12, Option.bind_some]
      refine y_121 hE1 (by decide) (fun hb => by rw [x70]; have := hS hb; rw [eS1] at this; exact bind_n this) (fun k2 h13 hE2 => ?_) (fun hb k2 h13 => ?_) (fun hb k2 => ?_)
      · have S2 := STA_go S1 hE2
        have f2 : NMF b Mx Mq (nX_ (nX_ Mx)) (nx_ (nx_ Mq)) := NMF_tr hV0.2.2.1 (u12 S2 (XSb_tr XSb_nX XSb_nX)) NMF_go NMF_go
        refine hK F (nX_ (nX_ Mx)) (nx_ (nx_ Mq)) (a + 1 + 1) (STA_le S2 (by decide)) (by omega) (PRS_h f2.2.2.2.2.1) (STF_n f2) (fun lm sm _ _ => ?_) (fun G Qtq hg => toQ fun V' hV' hW' => j_250t hT hE (by decide) k1 h12 (j_244t hT1 hE1 (by decide) k2 h13 (rv_i hg)))
        rw [eS1, tS_e (by rw [← x70]; exact k2) h13, Option.bind_some]
        have lce : lc_ b (nX_ (nX_ Mx)) = lc_ b Mx := (LKP_F (b := b) (XF_tr (nX_XF (M := Mx)) nX_XF)).2
        rw [lce]
      · have hsp := SQ_bf hE1 hb (k := 2) (by decide) QA_rf
        exact hQ hb _ (XSb_tr XSb_nX (XA_XSb (XF_XA fl_XF))) (fun G Qtq hg => toQ fun V' hV' hW' => j_250t hT hE (by decide) k1 h12 (j_244r hT1 hE1 hb (by decide) k2 h13 (rv_i (hg _ ⟨hsp.1, hsp.2.1, hsp.2.2.1, hsp.2.2.2.1, QSb_tr (QA_QSb (QF_QA nx_QF)) (QA_QSb hsp.2.2.2.2)⟩))))
      · have hsp := SQ_bf hE1 hb (k := 1) (by decide) QA_rf
        exact hQ hb _ (XSb_tr XSb_nX (XA_XSb (XF_XA fl_XF))) (fun G Qtq hg => toQ fun V' hV' hW' => j_250t hT hE (by decide) k1 h12 (j_244w hT1 hE1 hb (by decide) k2 (rv_i (hg _ ⟨hsp.1, hsp.2.1, hsp.2.2.1, hsp.2.2.2.1, QSb_tr (QA_QSb (QF_QA nx_QF)) (QA_QSb hsp.2.2.2.2)⟩))))
end PU
end T223_ps
section T224_vr
/-! a process's variables and timers: Q's own (255), variable (254), holds (256); X's variableIs (127) -/
def OWM (N : mm_) (t : Int) : Prop := (∃ k, (0 ≤ k ∧ k < N 171 (N 6 61)) ∧ N 177 (8 * N 6 61 + k) = N 151 t ∧ N 181 (8 * N 6 61 + k) < N 150 t) ∨ (∃ k, (0 ≤ k ∧ k < N 173 (N 6 61)) ∧ N 178 (3 * N 6 61 + k) = N 151 t ∧ N 185 (3 * N 6 61 + k) < N 150 t)
def OWI (N : mm_) (t : Int) (N' : mm_) : Prop := N' = N ∨ (N' = nt_ N 3 (N 150 t) ∧ OWM N t)
def OWX (N : mm_) (t : Int) (N' : mm_) : Prop := (N' = N ∧ ¬ OWM N t) ∨ (N' = nt_ N 3 (N 150 t) ∧ OWM N t)
/-- X's new variable -/
def vX_ (M : mm_) (t s z : Int) : mm_ := up_ (up_ (up_ (up_ (up_ (up_ M 60 (8 * M 1 18 + M 124 (M 1 18)) t) 130 (8 * M 1 18 + M 124 (M 1 18)) s) 131 (8 * M 1 18 + M 124 (M 1 18)) z) 132 (8 * M 1 18 + M 124 (M 1 18)) (M 125 (M 1 18))) 125 (M 1 18) (M 125 (M 1 18) + (if 1 < z then z else 1))) 124 (M 1 18) (M 124 (M 1 18) + 1)
/-- Q's, at its name -/
def vN_ (N : mm_) (n t : Int) : mm_ := up_ (up_ (up_ N 177 (8 * N 6 61 + n) (N 151 t)) 181 (8 * N 6 61 + n) (N 150 t)) 171 (N 6 61) (N 171 (N 6 61) + 1)
/-- Q's, at its sort -/
def vH_ (N : mm_) (n s z : Int) : mm_ := up_ (up_ (up_ (up_ N 182 (8 * N 6 61 + n) s) 183 (8 * N 6 61 + n) z) 184 (8 * N 6 61 + n) (N 172 (N 6 61))) 172 (N 6 61) (N 172 (N 6 61) + (if z = 0 then 1 else z))
section VR
variable {d : Nat} {b F : Int} {M N N' : mm_} {t p k s z n x4 : Int} {K : Int → mm_ → Prop} {Kv : mm_ → Prop} {Qt : qt_} {V : vv_}
theorem OWX_I [Inhabited gh_] (h : OWX N t N') : OWI N t N' := by
  rcases h with h | h
  · exact .inl h.1
  · exact .inr h
theorem OWI_r [Inhabited gh_] (h : OWI N t N') {r : Nat} (hr : r ≠ 6) : N' r = N r := by
  rcases h with h | ⟨h, _⟩
  · rw [h]
  · rw [h, ntQ_r hr]
theorem OWI_6 [Inhabited gh_] (h : OWI N t N') {i : Int} (h1 : i ≠ 13) (h2 : i ≠ 14) : N' 6 i = N 6 i := by
  rcases h with h | ⟨h, _⟩
  · rw [h]
  · rw [h, ntQ_6 h1 h2]
theorem OWI_n [Inhabited gh_] (h : OWI N t N') (hm : OWM N t) : OWI N t (nt_ N' 3 (N 150 t)) := by
  rcases h with h | ⟨h, _⟩
  · rw [h]; exact .inr ⟨rfl, hm⟩
  · rw [h, nt_nt]; exact .inr ⟨rfl, hm⟩
/-- so far: no match, or the note -/
def OWJ (N : mm_) (t k m : Int) (N' : mm_) : Prop := (N' = N ∧ (∀ i, 0 ≤ i → i < k → ¬ (N 177 (8 * N 6 61 + i) = N 151 t ∧ N 181 (8 * N 6 61 + i) < N 150 t)) ∧ ∀ i, 0 ≤ i → i < m → ¬ (N 178 (3 * N 6 61 + i) = N 151 t ∧ N 185 (3 * N 6 61 + i) < N 150 t)) ∨ (N' = nt_ N 3 (N 150 t) ∧ OWM N t)
theorem OWJ_I [Inhabited gh_] {m : Int} (h : OWJ N t k m N') : OWI N t N' := by
  rcases h with h | h
  · exact .inl h.1
  · exact .inr h
theorem l_255b [Inhabited gh_] (hV : Cl_ wd0 (Tr_ wd0 pg0 (d + 1)) V (rv_ Kv) Qt m_255) (hW : Wk_ V) (hT : 0 ≤ N 6 61 ∧ N 6 61 < 6) (h3 : N 173 (N 6 61) ≤ 3) (ht : 0 ≤ t ∧ t < 1202) (h1 : OWM N t → Kv (nt_ N 3 (N 150 t))) (h0 : ¬ OWM N t → Kv N) :
    ∀ (n : Nat) (k : Int) (N' : mm_), N 173 (N 6 61) - k ≤ (n : Int) → 0 ≤ k → OWJ N t (N 171 (N 6 61)) k N' → V 81 [rr 6, ii t, ii k] [] N'
  | n, k, N', hn, hk0, hj => by
    have h := OWJ_I hj
    have e61 : N' 6 61 = N 6 61 := OWI_6 h (by decide) (by decide)
    have er : ∀ r : Nat, r ≠ 6 → N' r = N r := fun r hr => OWI_r h hr
    refine b_255_81 (Tr_mono _) hV hW _ _ _ ?_
    rw [e61, er 173 (by decide), er 178 (by decide), er 151 (by decide), er 185 (by decide), er 150 (by decide)]
    refine ⟨hT, ?_⟩
    by_cases c : k < N 173 (N 6 61)
    · rw [if_pos c, w32_id (x := 3 * N 6 61) (by omega) (by omega), w32_id (x := 3 * N 6 61 + k) (by omega) (by omega), w32_id (x := k + 1) (by omega) (by omega)]
      have rc1 : ∀ N1, OWJ N t (N 171 (N 6 61)) (k + 1) N1 → V 81 [rr 6, ii t, ii (k + 1)] [] N1 := fun N1 g1 => by
        cases n with
        | zero => omega
        | succ m => exact l_255b hV hW hT h3 ht h1 h0 m (k + 1) N1 (by omega) (by omega) g1
      have nx1 : ¬ (N 178 (3 * N 6 61 + k) = N 151 t ∧ N 185 (3 * N 6 61 + k) < N 150 t) → OWJ N t (N 171 (N 6 61)) (k + 1) N' := fun hm => by
        rcases hj with ⟨e, g1, g2⟩ | g
        · refine .inl ⟨e, g1, fun i i0 i1 => ?_⟩
          by_cases ci : i = k
          · rw [ci]; exact hm
          · exact g2 i i0 (by omega)
        · exact .inr g
      refine ⟨by omega, ht, ?_⟩
      by_cases c1 : N 178 (3 * N 6 61 + k) = N 151 t
      · rw [if_pos (by rw [if_neg (by omega), if_pos c1])]
        refine ⟨by omega, ht, ?_⟩
        by_cases c2 : N 185 (3 * N 6 61 + k) < N 150 t
        · rw [if_pos c2]
          have hm : OWM N t := .inr ⟨k, ⟨hk0, c⟩, c1, c2⟩
          refine ⟨ht, q_236 (rc1 _ (.inr ⟨?_, hm⟩))⟩
          rcases h with h | ⟨h, _⟩
          · rw [h]
          · rw [h, nt_nt]
        · rw [if_neg c2]; exact rc1 _ (nx1 (fun e => c2 e.2))
      · rw [if_neg (by by_cases c2 : N 178 (3 * N 6 61 + k) < N 151 t
                       · rw [if_pos c2]; decide
                       · rw [if_neg c2, if_neg c1]; decide)]
        exact rc1 _ (nx1 (fun e => c1 e.1))
    · rw [if_neg c]
      rcases hj with ⟨e, g1, g2⟩ | ⟨e, g⟩
      · rw [e]
        refine rv_i (h0 ?_)
        rintro (⟨i, hi, m1, m2⟩ | ⟨i, hi, m1, m2⟩)
        · exact g1 i hi.1 hi.2 ⟨m1, m2⟩
        · exact g2 i hi.1 (by omega) ⟨m1, m2⟩
      · rw [e]; exact rv_i (h1 g)
theorem l_255a [Inhabited gh_] (hV : Cl_ wd0 (Tr_ wd0 pg0 (d + 1)) V (rv_ Kv) Qt m_255) (hW : Wk_ V) (hT : 0 ≤ N 6 61 ∧ N 6 61 < 6) (h8 : 0 ≤ N 171 (N 6 61) ∧ N 171 (N 6 61) ≤ 8) (h3 : N 173 (N 6 61) ≤ 3) (ht : 0 ≤ t ∧ t < 1202) (h1 : OWM N t → Kv (nt_ N 3 (N 150 t))) (h0 : ¬ OWM N t → Kv N) :
    ∀ (n : Nat) (k : Int) (N' : mm_), N 171 (N 6 61) - k ≤ (n : Int) → 0 ≤ k → k ≤ N 171 (N 6 61) → OWJ N t k 0 N' → V 2 [rr 6, ii t, ii k] [] N'
  | n, k, N', hn, hk0, hk1, hj => by
    have h := OWJ_I hj
    have e61 : N' 6 61 = N 6 61 := OWI_6 h (by decide) (by decide)
    have er : ∀ r : Nat, r ≠ 6 → N' r = N r := fun r hr => OWI_r h hr
    refine b_255_2 (Tr_mono _) hV hW _ _ _ ?_
    rw [e61, er 171 (by decide), er 177 (by decide), er 151 (by decide), er 181 (by decide), er 150 (by decide)]
    refine ⟨hT, ?_⟩
    by_cases c : k < N 171 (N 6 61)
    · rw [if_pos c, w32_id (x := 8 * N 6 61) (by omega) (by omega), w32_id (x := 8 * N 6 61 + k) (by omega) (by omega), w32_id (x := k + 1) (by omega) (by omega)]
      have rc1 : ∀ N1, OWJ N t (k + 1) 0 N1 → V 2 [rr 6, ii t, ii (k + 1)] [] N1 := fun N1 g1 => by
        cases n with
        | zero => omega
        | succ m => exact l_255a hV hW hT h8 h3 ht h1 h0 m (k + 1) N1 (by omega) (by omega) (by omega) g1
      have nx1 : ¬ (N 177 (8 * N 6 61 + k) = N 151 t ∧ N 181 (8 * N 6 61 + k) < N 150 t) → OWJ N t (k + 1) 0 N' := fun hm => by
        rcases hj with ⟨e, g1, g2⟩ | g
        · refine .inl ⟨e, fun i i0 i1 => ?_, g2⟩
          by_cases ci : i = k
          · rw [ci]; exact hm
          · exact g1 i i0 (by omega)
        · exact .inr g
      refine ⟨by omega, ht, ?_⟩
      by_cases c1 : N 177 (8 * N 6 61 + k) = N 151 t
      · rw [if_pos (by rw [if_neg (by omega), if_pos c1])]
        refine ⟨by omega, ht, ?_⟩
        by_cases c2 : N 181 (8 * N 6 61 + k) < N 150 t
        · rw [if_pos c2]
          have hm : OWM N t := .inl ⟨k, ⟨hk0, c⟩, c1, c2⟩
          refine ⟨ht, q_236 (rc1 _ (.inr ⟨?_, hm⟩))⟩
          rcases h with h | ⟨h, _⟩
          · rw [h]
          · rw [h, nt_nt]
        · rw [if_neg c2]; exact rc1 _ (nx1 (fun e => c2 e.2))
      · rw [if_neg (by by_cases c2 : N 177 (8 * N 6 61 + k) < N 151 t
                       · rw [if_pos c2]; decide
                       · rw [if_neg c2, if_neg c1]; decide)]
        exact rc1 _ (nx1 (fun e => c1 e.1))
    · rw [if_neg c]
      rw [show k = N 171 (N 6 61) by omega] at hj
      exact l_255b hV hW hT h3 ht h1 h0 (N 173 (N 6 61)).toNat 0 N' (by omega) (by omega) hj
theorem q_255 [Inhabited gh_] (hT : 0 ≤ N 6 61 ∧ N 6 61 < 6) (h8 : 0 ≤ N 171 (N 6 61) ∧ N 171 (N 6 61) ≤ 8) (h3 : N 173 (N 6 61) ≤ 3) (ht : 0 ≤ t ∧ t < 1202) : ∃ N', OWX N t N' ∧ ∀ (d : Nat) (Kv : mm_ → Prop) (Qt : qt_), Kv N' → Tr_ wd0 pg0 (d + 2) 255 [.inr (.inr 6), .inl t] N (rv_ Kv) Qt := by
  rcases Classical.em (OWM N t) with m | m
  · exact ⟨nt_ N 3 (N 150 t), .inr ⟨rfl, m⟩, fun d Kv Qt hk => t_255 fun V hV hW => b_255_0 (Tr_mono _) hV hW _ _ (l_255a hV hW hT h8 h3 ht (fun _ => hk) (fun e => absurd m e) (N 171 (N 6 61)).toNat 0 N (by omega) (by omega) (by omega) (.inl ⟨rfl, fun i a b => by omega, fun i a b => by omega⟩))⟩
  · exact ⟨N, .inl ⟨rfl, m⟩, fun d Kv Qt hk => t_255 fun V hV hW => b_255_0 (Tr_mono _) hV hW _ _ (l_255a hV hW hT h8 h3 ht (fun e => absurd e m) (fun _ => hk) (N 171 (N 6 61)).toNat 0 N (by omega) (by omega) (by omega) (.inl ⟨rfl, fun i a b => by omega, fun i a b => by omega⟩))⟩
/-- Q's variable: pass 1 -/
theorem q_254n [Inhabited gh_] (hg : go_ N) (h16 : N 6 16 = 0) (hT : 0 ≤ N 6 61 ∧ N 6 61 < 6) (hn : 0 ≤ n ∧ n < 8) (h171 : 0 ≤ N 171 (N 6 61) ∧ N 171 (N 6 61) < 100) (ht : 0 ≤ t ∧ t < 1202) (hK : Kv (vN_ N n t)) : Tr_ wd0 pg0 (d + 3) 254 [.inr (.inr 6), .inl n, .inl t] N (rv_ Kv) Qt := by
  refine t_254 fun V hV hW => b_254_0 (Tr_mono _) hV hW _ _ _ (q_227g hg ?_)
  rw [if_pos rfl]
  intro _
  rw [if_pos h16, if_neg (by omega)]
  refine b_254_33 (Tr_mono _) hV hW _ _ _ ?_
  intro _
  rw [if_pos h16, w32_id (x := 8 * N 6 61) (by omega) (by omega), w32_id (x := 8 * N 6 61 + n) (by omega) (by omega), w32_id (x := N 171 (N 6 61) + 1) (by omega) (by omega)]
  exact ⟨ht, by omega, ht, by omega, hT, hT, rv_i hK⟩
theorem q_254r [Inhabited gh_] (hg : go_ N) (h16 : N 6 16 = 0) (h13 : N 6 13 = 0) (hn : n = 8) (ht : 0 ≤ t ∧ t < 1202) (hK : Kv (bf_ N 2 (N 150 t))) : Tr_ wd0 pg0 (d + 3) 254 [.inr (.inr 6), .inl n, .inl t] N (rv_ Kv) Qt := by
  refine t_254 fun V hV hW => b_254_0 (Tr_mono _) hV hW _ _ _ (q_227g hg ?_)
  rw [if_pos rfl]
  intro _
  rw [if_pos h16, if_pos hn]
  exact ⟨ht, q_231o h13 (rv_i hK)⟩
/-- pass 2 -/
theorem q_254j [Inhabited gh_] (hg : go_ N) (h16 : N 6 16 = 1) (hT : 0 ≤ N 6 61 ∧ N 6 61 < 6) (h8 : 0 ≤ N 171 (N 6 61) ∧ N 171 (N 6 61) ≤ 8) (h3 : N 173 (N 6 61) ≤ 3) (ht : 0 ≤ t ∧ t < 1202) : ∃ N', OWX N t N' ∧ ∀ (d : Nat) (n : Int) (Kv : mm_ → Prop) (Qt : qt_), Kv N' → Tr_ wd0 pg0 (d + 3) 254 [.inr (.inr 6), .inl n, .inl t] N (rv_ Kv) Qt := by
  obtain ⟨N', ho, hq⟩ := q_255 hT h8 h3 ht
  refine ⟨N', ho, fun d n Kv Qt hk => ?_⟩
  refine t_254 fun V hV hW => b_254_0 (Tr_mono _) hV hW _ _ _ (q_227g hg ?_)
  rw [if_pos rfl]
  intro _
  rw [if_neg (by omega)]
  refine b_254_33 (Tr_mono _) hV hW _ _ _ ?_
  intro _
  rw [if_neg (by omega)]
  exact hq d _ _ (rv_i hk)
theorem q_254s [Inhabited gh_] (hs : sp_ N) (hK : Kv N) : Tr_ wd0 pg0 (d + 3) 254 [.inr (.inr 6), .inl n, .inl t] N (rv_ Kv) Qt := t_254 fun V hV hW => b_254_0 (Tr_mono _) hV hW _ _ _ (q_227s hs (by rw [if_neg (by decide)]; exact rv_i hK))
theorem q_256 [Inhabited gh_] (hT : 0 ≤ N 6 61 ∧ N 6 61 < 6) (hn : 0 ≤ n ∧ n < 8) (hz : 0 ≤ z ∧ z ≤ 8) (h172 : 0 ≤ N 172 (N 6 61) ∧ N 172 (N 6 61) ≤ 100) (h13 : N 6 13 = 0) (hg : N 172 (N 6 61) + (if z = 0 then 1 else z) ≤ 16 → Kv (vH_ N n s z)) (hr : 16 < N 172 (N 6 61) + (if z = 0 then 1 else z) → Kv (bf_ (vH_ N n s z) 2 x4)) : Tr_ wd0 pg0 (d + 2) 256 [.inr (.inr 6), .inl n, .inl s, .inl z, .inl x4] N (rv_ Kv) Qt := by
  refine t_256 fun V hV hW => b_256_0 (Tr_mono _) hV hW _ _ _ _ _ ?_
  rw [w32_id (x := 8 * N 6 61) (by omega) (by omega), w32_id (x := 8 * N 6 61 + n) (by omega) (by omega)]
  refine ⟨by omega, by omega, hT, by omega, hT, ?_⟩
  unfold vH_ at hg hr
  by_cases c : z = 0
  · rw [if_pos c] at hg hr ⊢
    rw [w32_id (x := N 172 (N 6 61) + 1) (by omega) (by omega), up_at]
    refine ⟨hT, hT, ?_⟩
    by_cases c1 : N 172 (N 6 61) + 1 ≤ 16
    · rw [if_pos c1]; exact rv_i (hg c1)
    · rw [if_neg c1]
      refine q_231o ?_ (rv_i (hr (by omega)))
      rw [up_ne (by decide), up_ne (by decide), up_ne (by decide), up_ne (by decide)]; exact h13
  · rw [if_neg c] at hg hr ⊢
    rw [w32_id (x := N 172 (N 6 61) + z) (by omega) (by omega), up_at]
    refine ⟨hT, hT, ?_⟩
    by_cases c1 : N 172 (N 6 61) + z ≤ 16
    · rw [if_pos c1]; exact rv_i (hg c1)
    · rw [if_neg c1]
      refine q_231o ?_ (rv_i (hr (by omega)))
      rw [up_ne (by decide), up_ne (by decide), up_ne (by decide), up_ne (by decide)]; exact h13
end VR
end T224_vr
section T225_vr
/-! a process's variables: X's variableIs, pass 1 -/
def nd_ (M N : mm_) (t : Int) : mm_ := if vrr N (N 151 t) = -1 ∧ tmr N (N 151 t) = -1 then M else nt1_ M 3 t
section VS
variable {d : Nat} {b F : Int} {M N N0 N' : mm_} {t p k s z n l : Int} {K : Int → mm_ → Prop} {Kv : mm_ → Prop} {Qt : qt_} {V : vv_}
theorem x_127 [Inhabited gh_] (h8 : M 1 8 = 0) (hT : Tks M N) (hV : VT M N) (ht : nm9_ M t) (h124 : M 124 (M 1 18) < 8) (h125 : 0 ≤ M 125 (M 1 18) ∧ M 125 (M 1 18) ≤ 16) (hz : 0 ≤ z ∧ z ≤ 8) (hl : 0 ≤ l ∧ l < 1202) (h7 : 0 ≤ M 1 7 ∧ M 1 7 < 2147483647)
    (hK : M 125 (M 1 18) + (if 1 < z then z else 1) ≤ 16 → Kv (vX_ (nd_ M N t) t s z)) (hr : 16 < M 125 (M 1 18) + (if 1 < z then z else 1) → Qt 8 (flX_ M 2 l)) : Tr_ wd0 pg0 (d + 4) 127 [.inr (.inr 1), .inl t, .inl s, .inl z, .inl l] M (rv_ Kv) Qt := by
  have v18 := hV.2.2
  have v24 := hV.2.2.2.2.1
  have tu : t ≤ 1200 := ht.1.2.1
  refine t_127 fun V hV' hW => b_127_0 (Tr_mono _) hV' hW _ _ _ _ _ ?_
  intro _
  rw [if_pos h8, if_neg (by omega)]
  refine ⟨hV.1, by omega, x_110 ht.1.1 (by omega) (fun _ => ?_) (fun e => absurd rfl e)⟩
  refine b_127_39 (Tr_mono _) hV' hW _ _ _ _ _ _ ⟨hV.1, by omega, ?_⟩
  have wi : w32 (M 125 (M 1 18) + (if 1 < z then z else 1)) = M 125 (M 1 18) + (if 1 < z then z else 1) := by split <;> exact w32_id (by omega) (by omega)
  rw [wi]
  by_cases c : M 125 (M 1 18) + (if 1 < z then z else 1) ≤ 16
  · rw [if_pos c]
    have hK := hK c
    refine x_110 hl.1 hl.2 (fun _ => ?_) (fun e => absurd rfl e)
    have fin : ∀ M1 : mm_, (∀ r : Nat, r ≠ 1 → M1 r = M r) → M1 1 2 = 5 → M1 1 18 = M 1 18 → Kv (vX_ M1 t s z) → V 97 [rr 1, ii t, ii s, ii z, ii l, ii (M 124 (M 1 18))] [] M1 := fun M1 hr h2 h18 hk => by
      refine b_127_97 (Tr_mono _) hV' hW _ _ _ _ _ _ ?_
      rw [h18, w32_id (x := 8 * M 1 18) (by omega) (by omega), w32_id (x := 8 * M 1 18 + M 124 (M 1 18)) (by omega) (by omega)]
      have e124 : M1 124 = M 124 := hr 124 (by decide)
      have e125 : M1 125 = M 125 := hr 125 (by decide)
      unfold vX_ at hk
      rw [h18, e124, e125] at hk
      rw [e124, e125, wi, w32_id (x := M 124 (M 1 18) + 1) (by omega) (by omega)]
      exact ⟨by omega, h2, by omega, h2, by omega, h2, h2, by omega, by omega, h2, by omega, by omega, h2, by omega, by omega, rv_i hk⟩
    unfold nd_ at hK
    refine x_128R hT hV ht ?_
    by_cases c1 : vrr N (N 151 t) = -1
    · rw [if_pos c1]
      refine x_129R hT hV ht ?_
      by_cases c2 : tmr N (N 151 t) = -1
      · rw [if_pos c2]
        rw [if_pos ⟨c1, c2⟩] at hK
        exact fin M (fun _ _ => rfl) hV.1 rfl hK
      · rw [if_neg c2]
        rw [if_neg (fun e => c2 e.2)] at hK
        exact x_116 ht.1.1 (by omega) h7.1 h7.2 (fin _ (fun r h => nt1_r h) (by rw [nt1_1 (by decide) (by decide) (by decide)]; exact hV.1) (nt1_1 (by decide) (by decide) (by decide)) hK)
    · rw [if_neg c1]
      rw [if_neg (fun e => c1 e.1)] at hK
      exact x_116 ht.1.1 (by omega) h7.1 h7.2 (fin _ (fun r h => nt1_r h) (by rw [nt1_1 (by decide) (by decide) (by decide)]; exact hV.1) (nt1_1 (by decide) (by decide) (by decide)) hK)
  · rw [if_neg c]
    exact x_110 hl.1 hl.2 (fun e => absurd e (by decide)) (fun _ => hr (by omega))
theorem x_127j [Inhabited gh_] (h8 : M 1 8 = 1) (hK : Kv M) : Tr_ wd0 pg0 (d + 4) 127 [.inr (.inr 1), .inl t, .inl s, .inl z, .inl l] M (rv_ Kv) Qt := t_127 fun V hV' hW => b_127_0 (Tr_mono _) hV' hW _ _ _ _ _ (fun _ => by rw [if_neg (by omega)]; exact rv_i hK)
end VS
end T225_vr
section T226_vr
/-! a process's variables: the relation, a variable more (pass 1) -/
def DCL (M : mm_) (T u : Int) : Prop := (∃ k, (0 ≤ k ∧ k < M 124 T) ∧ M 60 (8 * T + k) = u) ∨ (∃ k, (0 ≤ k ∧ k < M 126 T) ∧ M 61 (3 * T + k) = u)
/-- cells of variables behind scalars only -/
def SCC (M : mm_) (T : Int) : Prop := ∀ k, 0 ≤ k → k ≤ M 124 T → (∀ i, 0 ≤ i → i < k → M 131 (8 * T + i) = 0) → (if k = M 124 T then M 125 T else M 132 (8 * T + k)) = k
/-- cells of variables lie apart -/
def SCD (M : mm_) (T : Int) : Prop := ∀ i k, 0 ≤ i → i < k → k < M 124 T → M 132 (8 * T + i) + (if 1 < M 131 (8 * T + i) then M 131 (8 * T + i) else 1) ≤ M 132 (8 * T + k)
def TBL (F : Int) (M N : mm_) (T : Int) : Prop := (N 172 T = M 125 T ∧ 0 ≤ M 125 T ∧ M 125 T ≤ 16 ∧ SCC M T ∧ SCD M T)
  ∧ (∀ k, 0 ≤ k → k < M 124 T → (0 ≤ M 132 (8 * T + k) ∧ M 132 (8 * T + k) + (if 1 < M 131 (8 * T + k) then M 131 (8 * T + k) else 1) ≤ M 125 T ∧ M 131 (8 * T + k) ≤ 8) ∧ N 181 (8 * T + k) = M 71 (M 60 (8 * T + k)))
  ∧ (∀ k, 0 ≤ k → k < M 126 T → N 185 (3 * T + k) = M 71 (M 61 (3 * T + k))) ∧ (∀ u v, DCL M T u → DCL M T v → N 151 u = N 151 v → u < v → F ≤ 8 * M 71 v + 3)
/-- X's fault key comes from a name of this type told twice, or stands from before -/
def HDG [Inhabited gh_] (b F : Int) (M N : mm_) (T : Int) : Prop := ff_ = 0 ∧ (b = 0 → hh_ = 0 ∨ F = hh_ ∨ ∃ u v, (DCL M T u ∧ DCL M T v ∧ u < v) ∧ N 151 u = N 151 v ∧ F = 8 * M 71 v + 3)
def HDR [Inhabited gh_] (b F : Int) (M N : mm_) (a : Int) : Prop := STA b F M N a 0 ∧ TBL F M N (M 1 18) ∧ (b = 0 → ∀ u, DCL M (M 1 18) u → u < a) ∧ HDG b F M N (M 1 18)
section VT2
variable {b F F' : Int} {M N M1 N1 : mm_} {a a' T t s z : Int}
theorem Tks_r [Inhabited gh_] (h : Tks M N) (hx : ∀ r : Nat, r ∈ [69, 70, 71, 72, 73] → M1 r = M r) (hq : ∀ r : Nat, r ∈ [149, 150, 151] → N1 r = N r) : Tks M1 N1 := by
  unfold Tks gd_ lk9_ at *
  rw [hx 69 (by decide), hx 70 (by decide), hx 71 (by decide), hx 72 (by decide), hx 73 (by decide), hq 149 (by decide), hq 150 (by decide), hq 151 (by decide)]
  exact h
theorem nm9_r [Inhabited gh_] (h : nm9_ M a) (hx : M1 70 = M 70) : nm9_ M1 a := ⟨gd_c hx h.1, by rw [hx]; exact h.2⟩
/-- TS, from its pieces -/
theorem TS_mk [Inhabited gh_] (h : TS b F M N a) (hT : Tks M1 N1) (hV : VT M1 N1) (hE : ER b F' M1 N1 a 0) (hG : GT b F' M1 N1 (M1 71 a)) (hL : LBT b F' M1 N1 a) (h9 : stt9 M1 N1) (h1 : ∀ i : Int, i = 19 ∨ i = 21 ∨ i = 23 ∨ i = 29 → M1 1 i = M 1 i) (h7 : M1 1 7 + 8 * (1201 - a) ≤ 1000000000 - (gg_ : Int)) (h5 : M1 5 3 = M 5 3) (h6 : ∀ i : Int, i = 75 ∨ i = 76 ∨ i = 90 ∨ i = 104 → N1 6 i = N 6 i) : TS b F' M1 N1 a := by
  obtain ⟨⟨t1, t2, t3, t4, t5, t6⟩, g, l, s, ⟨u1, u2⟩, w, r, ⟨k1, k2⟩, n1, n2⟩ := h
  exact ⟨⟨hT, hV, hE, by rw [h6 75 (by omega)]; exact t4, by rw [h6 104 (by omega)]; exact t5, by rw [h5]; exact t6⟩, hG, hL, h9, ⟨by rw [h1 29 (by omega)]; exact u1, by rw [h6 76 (by omega)]; exact u2⟩, h7, by rw [h6 90 (by omega)]; exact r, ⟨by rw [h1 21 (by omega)]; exact k1, by rw [h1 23 (by omega)]; exact k2⟩, by rw [h1 19 (by omega)]; exact n1, by rw [h5]; exact n2⟩
theorem DCL_c [Inhabited gh_] (h124 : M1 124 = M 124) (h60 : M1 60 = M 60) (h126 : M1 126 = M 126) (h61 : M1 61 = M 61) : DCL M1 T t ↔ DCL M T t := by unfold DCL; rw [h124, h60, h126, h61]
theorem TBL_c [Inhabited gh_] (h : TBL F M N T) (hx : ∀ r : Nat, r ∈ [60, 61, 71, 124, 125, 126, 131, 132] → M1 r = M r) (hq : ∀ r : Nat, r ∈ [151, 172, 181, 185] → N1 r = N r) : TBL F M1 N1 T := by
  unfold TBL DCL SCC SCD at *
  rw [hx 60 (by decide), hx 61 (by decide), hx 71 (by decide), hx 124 (by decide), hx 125 (by decide), hx 126 (by decide), hx 131 (by decide), hx 132 (by decide), hq 151 (by decide), hq 172 (by decide), hq 181 (by decide), hq 185 (by decide)]
  exact h
theorem HDG_c [Inhabited gh_] (h : HDG b F M N T) (hx : ∀ r : Nat, r ∈ [60, 61, 71, 124, 126] → M1 r = M r) (hq : N1 151 = N 151) : HDG b F M1 N1 T := by
  unfold HDG DCL at *
  rw [hx 60 (by decide), hx 61 (by decide), hx 71 (by decide), hx 124 (by decide), hx 126 (by decide), hq]
  exact h
theorem HDR_go [Inhabited gh_] (h : HDR b F M N a) (hE : ER b F (nX_ M) (nx_ N) (a + 1) 0) : HDR b F (nX_ M) (nx_ N) (a + 1) := by
  obtain ⟨h1, h2, h3, h4⟩ := h
  have e : ∀ r : Nat, r ≠ 1 → nX_ M r = M r := fun r h => nX_ne h
  refine ⟨STA_le (STA_go h1 hE) (by decide), ?_, fun hb u hu => ?_, by rw [nX_1 (by decide)]; exact HDG_c h4 (fun r hr => e r (fun c => by rw [c] at hr; revert hr; decide)) (nx_ne (by decide))⟩
  · rw [nX_1 (by decide)]
    exact TBL_c h2 (fun r hr => e r (fun c => by rw [c] at hr; revert hr; decide)) (fun r hr => nx_ne (fun c => by rw [c] at hr; revert hr; decide))
  · rw [nX_1 (by decide), DCL_c (e _ (by decide)) (e _ (by decide)) (e _ (by decide)) (e _ (by decide))] at hu
    have := h3 hb u hu; omega
theorem vX_r [Inhabited gh_] {r : Nat} (h : r ∉ [60, 124, 125, 130, 131, 132]) : vX_ M t s z r = M r := by
  unfold vX_
  rw [up_ne (fun e => h (by rw [e]; decide)), up_ne (fun e => h (by rw [e]; decide)), up_ne (fun e => h (by rw [e]; decide)), up_ne (fun e => h (by rw [e]; decide)), up_ne (fun e => h (by rw [e]; decide)), up_ne (fun e => h (by rw [e]; decide))]
def vA_ (N : mm_) (n t s z : Int) : mm_ := vH_ (vN_ N n t) n s z
theorem vA_r [Inhabited gh_] {r : Nat} {n : Int} (h : r ∉ [171, 172, 177, 181, 182, 183, 184]) : vA_ N n t s z r = N r := by
  unfold vA_ vH_ vN_
  rw [up_ne (fun e => h (by rw [e]; decide)), up_ne (fun e => h (by rw [e]; decide)), up_ne (fun e => h (by rw [e]; decide)), up_ne (fun e => h (by rw [e]; decide)), up_ne (fun e => h (by rw [e]; decide)), up_ne (fun e => h (by rw [e]; decide)), up_ne (fun e => h (by rw [e]; decide))]
theorem nd_r [Inhabited gh_] {r : Nat} (h : r ≠ 1) : nd_ M N t r = M r := by
  unfold nd_; split
  · rfl
  · exact nt1_r h
theorem nd_1 [Inhabited gh_] {i : Int} (h4 : i ≠ 4) (h5 : i ≠ 5) (h7 : i ≠ 7) : nd_ M N t 1 i = M 1 i := by
  unfold nd_; split
  · rfl
  · exact nt1_1 h4 h5 h7
theorem nd_7 [Inhabited gh_] : M 1 7 ≤ nd_ M N t 1 7 ∧ nd_ M N t 1 7 ≤ M 1 7 + 1 := by
  unfold nd_; split
  · omega
  · rw [nt1_7]; omega
/-- the fault key of pass 1, with a note TWICE at t if the name is told -/
def Fd_ (F : Int) (M N : mm_) (t : Int) : Int := if vrr N (N 151 t) = -1 ∧ tmr N (N 151 t) = -1 then F else min F (8 * M 71 t + 3)
theorem Fd_le [Inhabited gh_] : Fd_ F M N t ≤ F := by unfold Fd_; split <;> omega
theorem ER_nd [Inhabited gh_] (hE : ER b F M N a 0) (hb : b = 0) (hp : 0 ≤ M 71 t ∧ M 71 t ≤ 5000) (hf : M 1 7 + 1 + 8 * (1201 - a) ≤ 1000001000 - (gg_ : Int)) : ER b (Fd_ F M N t) (nd_ M N t) N a 0 := by
  unfold Fd_ nd_; split
  · exact hE
  · exact ER_n1 hE hb (by decide) hp hf
/-- who tells a name of this type already -/
theorem DCL_told [Inhabited gh_] (hV : VT M N) {u : Int} (hu : DCL M (M 1 18) u) (he : N 151 u = N 151 t) : ¬ (vrr N (N 151 t) = -1 ∧ tmr N (N 151 t) = -1) := by
  rintro ⟨e1, e2⟩
  have v := hV.2
  rcases hu with ⟨k, hk, e⟩ | ⟨k, hk, e⟩
  · have r := v.2.2.2.2.2.1 k hk.1 hk.2
    unfold vrr at e1
    have := fi_no _ _ _ _ e1 (Int.le_refl _) k hk.1 (by rw [v.1, v.2.2.2.1.2.2]; omega)
    apply this
    show N 177 (8 * N 6 61 + k) = N 151 t
    rw [v.1, r.2.1, e, he]
  · have r := v.2.2.2.2.2.2 k hk.1 hk.2
    unfold tmr at e2
    have := fi_no _ _ _ _ e2 (Int.le_refl _) k hk.1 (by rw [v.1, v.2.2.2.2.1.2.2]; omega)
    apply this
    show N 178 (3 * N 6 61 + k) = N 151 t
    rw [v.1, r.2, e, he]
theorem told_DCL [Inhabited gh_] (hV : VT M N) (h : ¬ (vrr N (N 151 t) = -1 ∧ tmr N (N 151 t) = -1)) : ∃ u, DCL M (M 1 18) u ∧ N 151 u = N 151 t := by
  have v := hV.2
  by_cases c : vrr N (N 151 t) = -1
  · have c2 : tmr N (N 151 t) ≠ -1 := fun e => h ⟨c, e⟩
    unfold tmr at c2
    rcases fi_r (fun i => N 178 (3 * N 6 61 + i)) (N 151 t) (N 173 (N 6 61)).toNat 0 with z | ⟨z1, z2, z3⟩
    · exact absurd z c2
    · generalize fi_ (fun i => N 178 (3 * N 6 61 + i)) (N 151 t) (N 173 (N 6 61)).toNat 0 = k at *
      have hk : k < M 126 (M 1 18) := by rw [v.1, v.2.2.2.2.1.2.2] at z2; have := v.2.2.2.2.1.1; omega
      have r := v.2.2.2.2.2.2 k z1 hk
      have z4 : N 178 (3 * N 6 61 + k) = N 151 t := z3
      rw [v.1, r.2] at z4
      exact ⟨_, .inr ⟨k, ⟨z1, hk⟩, rfl⟩, z4⟩
  · unfold vrr at c
    rcases fi_r (fun i => N 177 (8 * N 6 61 + i)) (N 151 t) (N 171 (N 6 61)).toNat 0 with z | ⟨z1, z2, z3⟩
    · exact absurd z c
    · generalize fi_ (fun i => N 177 (8 * N 6 61 + i)) (N 151 t) (N 171 (N 6 61)).toNat 0 = k at *
      have hk : k < M 124 (M 1 18) := by rw [v.1, v.2.2.2.1.2.2] at z2; have := v.2.2.2.1.1; omega
      have r := v.2.2.2.2.2.1 k z1 hk
      have z4 : N 177 (8 * N 6 61 + k) = N 151 t := z3
      rw [v.1, r.2.1] at z4
      exact ⟨_, .inl ⟨k, ⟨z1, hk⟩, rfl⟩, z4⟩
/-- a name more -/
theorem HDG_d [Inhabited gh_] (h : HDG b F M N (M 1 18)) (hV : VT M N) (dcl : ∀ u, DCL M1 (M 1 18) u ↔ DCL M (M 1 18) u ∨ u = t) (h71 : M1 71 = M 71) (h151 : N1 151 = N 151) (hlt : ∀ u, DCL M (M 1 18) u → u < t) : HDG b (Fd_ F M N t) M1 N1 (M 1 18) := by
  refine ⟨h.1, fun hb => ?_⟩
  have old : Fd_ F M N t = F → hh_ = 0 ∨ Fd_ F M N t = hh_ ∨ ∃ u v, (DCL M1 (M 1 18) u ∧ DCL M1 (M 1 18) v ∧ u < v) ∧ N1 151 u = N1 151 v ∧ Fd_ F M N t = 8 * M1 71 v + 3 := fun e => by
    rcases h.2 hb with z | z | ⟨u, v, z1, z2, z3⟩
    · exact .inl z
    · exact .inr (.inl (by rw [e]; exact z))
    · exact .inr (.inr ⟨u, v, ⟨(dcl u).mpr (.inl z1.1), (dcl v).mpr (.inl z1.2.1), z1.2.2⟩, by rw [h151]; exact z2, by rw [e, h71]; exact z3⟩)
  by_cases c : vrr N (N 151 t) = -1 ∧ tmr N (N 151 t) = -1
  · exact old (by unfold Fd_; rw [if_pos c])
  · by_cases c2 : F ≤ 8 * M 71 t + 3
    · exact old (by unfold Fd_; rw [if_neg c]; omega)
    · obtain ⟨u, hu, he⟩ := told_DCL hV c
      exact .inr (.inr ⟨u, t, ⟨(dcl u).mpr (.inl hu), (dcl t).mpr (.inr rfl), hlt u hu⟩, by rw [h151]; exact he, by unfold Fd_; rw [if_neg c, h71]; omega⟩)
end VT2
end T226_vr
section T227_vr
/-! a process's variables: a variable more (pass 1) -/
section VU
variable {b F F' : Int} {M N M1 N1 : mm_} {a a' T t s z : Int}
theorem vX_k [Inhabited gh_] : vX_ M t s z 60 (8 * M 1 18 + M 124 (M 1 18)) = t ∧ vX_ M t s z 130 (8 * M 1 18 + M 124 (M 1 18)) = s ∧ vX_ M t s z 131 (8 * M 1 18 + M 124 (M 1 18)) = z ∧ vX_ M t s z 132 (8 * M 1 18 + M 124 (M 1 18)) = M 125 (M 1 18) ∧ vX_ M t s z 125 (M 1 18) = M 125 (M 1 18) + (if 1 < z then z else 1) ∧ vX_ M t s z 124 (M 1 18) = M 124 (M 1 18) + 1 := by
  unfold vX_
  refine ⟨?_, ?_, ?_, ?_, ?_, up_at⟩
  · rw [up_ne (by decide), up_ne (by decide), up_ne (by decide), up_ne (by decide), up_ne (by decide), up_at]
  · rw [up_ne (by decide), up_ne (by decide), up_ne (by decide), up_ne (by decide), up_at]
  · rw [up_ne (by decide), up_ne (by decide), up_ne (by decide), up_at]
  · rw [up_ne (by decide), up_ne (by decide), up_at]
  · rw [up_ne (by decide), up_at]
theorem vX_o [Inhabited gh_] {r : Nat} {i : Int} (hr : r ∈ [60, 130, 131, 132]) (h : i ≠ 8 * M 1 18 + M 124 (M 1 18)) : vX_ M t s z r i = M r i := by
  unfold vX_
  rw [up_ne (fun e => by rw [e] at hr; revert hr; decide), up_ne (fun e => by rw [e] at hr; revert hr; decide), up_of2 h, up_of2 h, up_of2 h, up_of2 h]
theorem vX_t [Inhabited gh_] {r : Nat} {i : Int} (hr : r ∈ [124, 125]) (h : i ≠ M 1 18) : vX_ M t s z r i = M r i := by
  unfold vX_
  rw [up_of2 h, up_of2 h, up_ne (fun e => by rw [e] at hr; revert hr; decide), up_ne (fun e => by rw [e] at hr; revert hr; decide), up_ne (fun e => by rw [e] at hr; revert hr; decide), up_ne (fun e => by rw [e] at hr; revert hr; decide)]
theorem vA_k [Inhabited gh_] {n : Int} : vA_ N n t s z 177 (8 * N 6 61 + n) = N 151 t ∧ vA_ N n t s z 181 (8 * N 6 61 + n) = N 150 t ∧ vA_ N n t s z 171 (N 6 61) = N 171 (N 6 61) + 1 ∧ vA_ N n t s z 182 (8 * N 6 61 + n) = s ∧ vA_ N n t s z 183 (8 * N 6 61 + n) = z ∧ vA_ N n t s z 184 (8 * N 6 61 + n) = N 172 (N 6 61) ∧ vA_ N n t s z 172 (N 6 61) = N 172 (N 6 61) + (if z = 0 then 1 else z) := by
  have e6 : vN_ N n t 6 = N 6 := by unfold vN_; rw [up_ne (by decide), up_ne (by decide), up_ne (by decide)]
  have e172 : vN_ N n t 172 = N 172 := by unfold vN_; rw [up_ne (by decide), up_ne (by decide), up_ne (by decide)]
  unfold vA_ vH_
  rw [e6, e172]
  refine ⟨?_, ?_, ?_, ?_, ?_, ?_, up_at⟩
  · rw [up_ne (by decide), up_ne (by decide), up_ne (by decide), up_ne (by decide)]; unfold vN_; rw [up_ne (by decide), up_ne (by decide), up_at]
  · rw [up_ne (by decide), up_ne (by decide), up_ne (by decide), up_ne (by decide)]; unfold vN_; rw [up_ne (by decide), up_at]
  · rw [up_ne (by decide), up_ne (by decide), up_ne (by decide), up_ne (by decide)]; unfold vN_; rw [up_at]
  · rw [up_ne (by decide), up_ne (by decide), up_ne (by decide), up_at]
  · rw [up_ne (by decide), up_ne (by decide), up_at]
  · rw [up_ne (by decide), up_at]
theorem vA_o [Inhabited gh_] {n : Int} {r : Nat} {i : Int} (hr : r ∈ [177, 181, 182, 183, 184]) (h : i ≠ 8 * N 6 61 + n) : vA_ N n t s z r i = N r i := by
  have e6 : vN_ N n t 6 = N 6 := by unfold vN_; rw [up_ne (by decide), up_ne (by decide), up_ne (by decide)]
  unfold vA_ vH_
  rw [e6, up_ne (fun e => by rw [e] at hr; revert hr; decide), up_of2 h, up_of2 h, up_of2 h]
  unfold vN_
  rw [up_ne (fun e => by rw [e] at hr; revert hr; decide), up_of2 h, up_of2 h]
theorem HDR_v [Inhabited gh_] (h : HDR b F M N a) (hb : b = 0) (ht : nm9_ M t) (hta : t < a) (hlt : ∀ u, DCL M (M 1 18) u → u < t) (h124 : M 124 (M 1 18) < 8) (hc : M 125 (M 1 18) + (if 1 < z then z else 1) ≤ 16) (hz : 0 ≤ z ∧ z ≤ 8) (hs : 0 ≤ s ∧ s ≤ 2) (hf : M 1 7 + 1 + 8 * (1201 - a) ≤ 1000000000 - (gg_ : Int)) (hp : N 170 (M 1 18) ≤ M 124 (M 1 18)) :
    HDR b (Fd_ F M N t) (vX_ (nd_ M N t) t s z) (vA_ N (M 124 (M 1 18)) t (s + 1) z) a := by
  obtain ⟨h1, h2, h3, h4⟩ := h
  have hTS := h1.1
  have hT := hTS.1.1
  have hV := hTS.1.2.1
  have hE := TS_E hTS
  have hpl := (hT t ht.1).2.2.2.1
  have hF : Fd_ F M N t ≤ F := Fd_le
  have m1 : ∀ i : Int, i ≠ 4 → i ≠ 5 → i ≠ 7 → vX_ (nd_ M N t) t s z 1 i = M 1 i := fun i h4 h5 h7 => by rw [vX_r (by decide), nd_1 h4 h5 h7]
  have e18 : nd_ M N t 1 18 = M 1 18 := nd_1 (by decide) (by decide) (by decide)
  have e124 : nd_ M N t 124 = M 124 := nd_r (by decide)
  have e125 : nd_ M N t 125 = M 125 := nd_r (by decide)
  have v61 : N 6 61 = M 1 18 := hV.2.1
  have xr : ∀ r : Nat, r ≠ 1 → r ∉ [60, 124, 125, 130, 131, 132] → vX_ (nd_ M N t) t s z r = M r := fun r h1 h2 => by rw [vX_r h2, nd_r h1]
  have qr : ∀ r : Nat, r ∉ [171, 172, 177, 181, 182, 183, 184] → vA_ N (M 124 (M 1 18)) t (s + 1) z r = N r := fun r h => vA_r h
  have xk := vX_k (M := nd_ M N t) (t := t) (s := s) (z := z)
  rw [e18, e124, e125] at xk
  have xo : ∀ {r : Nat} {i : Int}, r ∈ [60, 130, 131, 132] → i ≠ 8 * M 1 18 + M 124 (M 1 18) → vX_ (nd_ M N t) t s z r i = M r i := fun {r i} hr hi => by
    rw [vX_o hr (by rw [e18, e124]; exact hi), nd_r (fun e => by rw [e] at hr; revert hr; decide)]
  have qk := vA_k (N := N) (n := M 124 (M 1 18)) (t := t) (s := s + 1) (z := z)
  rw [v61] at qk
  have qo : ∀ {r : Nat} {i : Int}, r ∈ [177, 181, 182, 183, 184] → i ≠ 8 * M 1 18 + M 124 (M 1 18) → vA_ N (M 124 (M 1 18)) t (s + 1) z r i = N r i := fun {r i} hr hi => vA_o hr (by rw [v61]; exact hi)
  have n7 := nd_7 (M := M) (N := N) (t := t)
  generalize eM : vX_ (nd_ M N t) t s z = M9 at *
  generalize eN : vA_ N (M 124 (M 1 18)) t (s + 1) z = N9 at *
  have k70 : M9 70 = M 70 := xr 70 (by decide) (by decide)
  have k71 : M9 71 = M 71 := xr 71 (by decide) (by decide)
  have q151 : N9 151 = N 151 := qr 151 (by decide)
  have q150 : N9 150 = N 150 := qr 150 (by decide)
  have q6 : N9 6 = N 6 := qr 6 (by decide)
  have x5 : M9 5 = M 5 := xr 5 (by decide) (by decide)
  have x18 : M9 1 18 = M 1 18 := m1 18 (by decide) (by decide) (by decide)
  have hT9 : Tks M9 N9 := Tks_r hT (fun r hr => xr r (fun e => by rw [e] at hr; revert hr; decide) (by revert hr; simp only [List.mem_cons, List.not_mem_nil, or_false]; omega)) (fun r hr => qr r (by revert hr; simp only [List.mem_cons, List.not_mem_nil, or_false]; omega))
  have nm : ∀ u, nm9_ M u → nm9_ M9 u := fun u hu => nm9_r hu k70
  obtain ⟨w1, w2, w3, w4, ⟨w5, w6, w7⟩, ⟨w8, w9, w10⟩, w11, w12⟩ := id hV
  obtain ⟨⟨b1, b2, b3, bS, bD⟩, b4, b5, b6⟩ := h2
  have hV9 : VT M9 N9 := by
    refine ⟨by rw [m1 2 (by decide) (by decide) (by decide)]; exact w1, by rw [q6, x18]; exact w2, by rw [x18]; exact w3, by rw [x18]; exact w4, ?_, ?_, ?_, ?_⟩
    · rw [x18, xk.2.2.2.2.2, qk.2.2.1]; omega
    · rw [x18, xr 126 (by decide) (by decide), qr 173 (by decide)]; exact ⟨w8, w9, w10⟩
    · rw [x18, xk.2.2.2.2.2]
      intro k k0 k1
      by_cases c : k = M 124 (M 1 18)
      · rw [c, xk.1, xk.2.1, xk.2.2.1, xk.2.2.2.1, qk.1, qk.2.2.2.1, qk.2.2.2.2.1, qk.2.2.2.2.2.1, q151]
        exact ⟨nm t ht, rfl, rfl, rfl, b1.symm, hs.1, hs.2, hz.1⟩
      · have r := w11 k k0 (by omega)
        have i9 : 8 * M 1 18 + k ≠ 8 * M 1 18 + M 124 (M 1 18) := by omega
        rw [xo (r := 60) (by decide) i9, xo (r := 130) (by decide) i9, xo (r := 131) (by decide) i9, xo (r := 132) (by decide) i9, qo (r := 177) (by decide) i9, qo (r := 182) (by decide) i9, qo (r := 183) (by decide) i9, qo (r := 184) (by decide) i9, q151]
        exact ⟨nm _ r.1, r.2⟩
    · rw [x18, xr 126 (by decide) (by decide), xr 61 (by decide) (by decide), qr 178 (by decide), q151]
      intro k k0 k1
      have r := w12 k k0 k1
      exact ⟨nm _ r.1, r.2⟩
  have hE9 : ER b (Fd_ F M N t) M9 N9 a 0 := by
    have e0 := ER_nd (t := t) hE hb (by omega) (by omega)
    have e1 : ER b (Fd_ F M N t) M9 N a 0 := ER_X2 e0 (by rw [k70, nd_r (by decide)]) (fun i _ _ => by rw [← eM, vX_r (by decide)]) (by rw [x5, nd_r (by decide)]) (by rw [← eM, vX_r (by decide)])
    exact ER_Q e1 (by rw [q6]) (by rw [q6]) (by rw [q6]) (by rw [q6]) (by rw [q6])
  have hG9 : GT b (Fd_ F M N t) M9 N9 (M9 71 a) := by
    obtain ⟨⟨g1, g2⟩, ⟨g3, g4, g5⟩, g6, g7⟩ := hTS.2.1
    refine ⟨⟨⟨by rw [x5, q6]; exact g1.1, fun k k0 k1 => ?_⟩, ?_⟩, ⟨⟨by rw [x5, q6]; exact g3.1, fun k k0 k1 => ?_⟩, fun k k0 k1 => ?_, fun hb1 => by omega⟩, ⟨⟨by rw [x5, q6]; exact g6.1, fun k k0 k1 => ?_⟩, fun hb1 => by omega⟩⟩
    · rw [x5] at k1
      rw [xr 56 (by decide) (by decide), qr 152 (by decide), q151]
      exact ⟨nm _ (g1.2 k k0 k1).1, (g1.2 k k0 k1).2⟩
    · rw [x5, xr 112 (by decide) (by decide), xr 113 (by decide) (by decide), qr 156 (by decide), qr 157 (by decide)]; exact g2
    · rw [x5] at k1
      rw [xr 58 (by decide) (by decide), qr 154 (by decide), q151]
      exact ⟨nm _ (g3.2 k k0 k1).1, (g3.2 k k0 k1).2⟩
    · rw [x5] at k1
      have r := g4 k k0 k1
      rw [qr 170 (by decide)]
      refine ⟨r.1, r.2.1, fun i i0 i1 => ?_⟩
      have i9 : 8 * k + i ≠ 8 * M 1 18 + M 124 (M 1 18) := by
        by_cases ck : k = M 1 18
        · rw [ck] at i1 ⊢; omega
        · omega
      rw [qo (r := 182) (by decide) i9, qo (r := 183) (by decide) i9]
      exact r.2.2 i i0 i1
    · rw [x5] at k1
      rw [xr 57 (by decide) (by decide), qr 153 (by decide), q151]
      exact ⟨nm _ (g6.2 k k0 k1).1, (g6.2 k k0 k1).2⟩
  have hL9 : LBT b (Fd_ F M N t) M9 N9 a := by
    obtain ⟨l1, l2, l3⟩ := hTS.2.2.1
    unfold LBT lbl9
    rw [x18, xr 128 (by decide) (by decide), xr 62 (by decide) (by decide), k71, qr 175 (by decide), qr 180 (by decide), qr 187 (by decide), q151]
    refine ⟨⟨l1.1, fun k k0 k1 => ⟨nm _ (l1.2 k k0 k1).1, (l1.2 k k0 k1).2⟩⟩, fun k k0 k1 => ?_, fun _ => .inl h4.1, fun hb1 => by omega⟩
    have r := l2 k k0 k1
    exact ⟨r.1, r.2.1, fun i i0 i1 => ⟨(r.2.2 i i0 i1).1, fun e => Int.le_trans hF ((r.2.2 i i0 i1).2 e)⟩⟩
  have h99 : stt9 M9 N9 := by
    obtain ⟨l1, l2⟩ := hTS.2.2.2.1
    unfold stt9
    rw [x18, xr 123 (by decide) (by decide), xr 59 (by decide) (by decide), qr 174 (by decide), qr 179 (by decide), q151]
    exact ⟨l1, fun k k0 k1 => ⟨nm _ (l2 k k0 k1).1, (l2 k k0 k1).2⟩⟩
  have m7 : M9 1 7 = nd_ M N t 1 7 := by rw [← eM, vX_r (by decide)]
  have hTS9 : TS b (Fd_ F M N t) M9 N9 a := TS_mk hTS hT9 hV9 hE9 hG9 hL9 h99 (fun i hi => m1 i (by omega) (by omega) (by omega)) (by rw [m7]; omega) (by rw [x5]) (fun i _ => by rw [q6])
  have dcl : ∀ u, DCL M9 (M 1 18) u ↔ DCL M (M 1 18) u ∨ u = t := fun u => by
    unfold DCL
    rw [xk.2.2.2.2.2, xr 126 (by decide) (by decide), xr 61 (by decide) (by decide)]
    constructor
    · rintro (⟨k, hk, e⟩ | h)
      · by_cases c : k = M 124 (M 1 18)
        · rw [c, xk.1] at e; exact .inr e.symm
        · rw [xo (r := 60) (by decide) (by omega)] at e
          exact .inl (.inl ⟨k, ⟨hk.1, by omega⟩, e⟩)
      · exact .inl (.inr h)
    · rintro ((⟨k, hk, e⟩ | h) | e)
      · exact .inl ⟨k, ⟨hk.1, by omega⟩, by rw [xo (r := 60) (by decide) (by omega)]; exact e⟩
      · exact .inr h
      · exact .inl ⟨M 124 (M 1 18), ⟨w5, by omega⟩, by rw [xk.1]; exact e.symm⟩
  refine ⟨⟨hTS9, by rw [x5, q6]; exact h1.2.1, fun hb1 => by omega⟩, ?_, fun _ u hu => ?_, by rw [x18]; exact HDG_d h4 hV dcl k71 q151 hlt⟩
  · rw [x18]
    refine ⟨?_, fun k k0 k1 => ?_, fun k k0 k1 => ?_, fun u v hu hv he huv => ?_⟩
    · rw [qk.2.2.2.2.2.2, xk.2.2.2.2.1]
      refine ⟨?_, by split <;> omega, hc, fun k k0 k1 hs => ?_, fun i k i0 i1 k1 => ?_⟩
      · rw [b1]
        by_cases c : z = 0
        · rw [if_pos c, if_neg (by omega)]
        · rw [if_neg c]
          by_cases c2 : 1 < z
          · rw [if_pos c2]
          · rw [if_neg c2]; omega
      · rw [xk.2.2.2.2.2] at k1 ⊢
        have old : ∀ j, 0 ≤ j → j ≤ k → j ≤ M 124 (M 1 18) → (if j = M 124 (M 1 18) then M 125 (M 1 18) else M 132 (8 * M 1 18 + j)) = j := fun j j0 jk j1 => bS j j0 j1 (fun i i0 i1 => by
          have e := hs i i0 (by omega)
          rw [xo (r := 131) (by decide) (by omega)] at e; exact e)
        by_cases c : k = M 124 (M 1 18) + 1
        · rw [if_pos c, xk.2.2.2.2.1]
          have e := hs (M 124 (M 1 18)) w5 (by omega)
          rw [xk.2.2.1] at e
          have o := old (M 124 (M 1 18)) w5 (by omega) (Int.le_refl _)
          rw [if_pos rfl] at o
          rw [e, if_neg (by decide)]; omega
        · rw [if_neg c]
          have o := old k k0 (Int.le_refl _) (by omega)
          by_cases c2 : k = M 124 (M 1 18)
          · rw [if_pos c2] at o; rw [c2, xk.2.2.2.1, o]; exact c2
          · rw [if_neg c2] at o; rw [xo (r := 132) (by decide) (by omega)]; exact o
      · rw [xk.2.2.2.2.2] at k1
        rw [xo (r := 131) (i := 8 * M 1 18 + i) (by decide) (by omega), xo (r := 132) (i := 8 * M 1 18 + i) (by decide) (by omega)]
        by_cases c2 : k = M 124 (M 1 18)
        · rw [c2, xk.2.2.2.1]; exact (b4 i i0 (by omega)).1.2.1
        · rw [xo (r := 132) (by decide) (by omega)]; exact bD i k i0 i1 (by omega)
    · rw [xk.2.2.2.2.2] at k1
      by_cases c : k = M 124 (M 1 18)
      · rw [c, xk.1, xk.2.2.1, xk.2.2.2.1, xk.2.2.2.2.1, qk.2.1, k71]
        exact ⟨⟨b2, Int.le_refl _, hz.2⟩, (hT t ht.1).2.1.symm⟩
      · have i9 : 8 * M 1 18 + k ≠ 8 * M 1 18 + M 124 (M 1 18) := by omega
        have r := b4 k k0 (by omega)
        rw [xo (r := 60) (by decide) i9, xo (r := 131) (by decide) i9, xo (r := 132) (by decide) i9, xk.2.2.2.2.1, qo (r := 181) (by decide) i9, k71]
        refine ⟨⟨r.1.1, ?_, r.1.2.2⟩, r.2⟩
        have := r.1.2.1
        have : (0 : Int) < (if 1 < z then z else 1) := by split <;> omega
        omega
    · rw [xr 126 (by decide) (by decide)] at k1
      rw [qr 185 (by decide), xr 61 (by decide) (by decide), k71]; exact b5 k k0 k1
    · rw [q151] at he
      rw [k71]
      rw [dcl] at hu hv
      rcases hv with hv | hv
      · rcases hu with hu | hu
        · exact Int.le_trans hF (b6 u v hu hv he huv)
        · rw [hu] at huv; have := hlt v hv; omega
      · rcases hu with hu | hu
        · rw [hv] at he ⊢
          unfold Fd_
          rw [if_neg (DCL_told hV hu he)]
          exact Int.min_le_right _ _
        · omega
  · rw [x18, dcl] at hu
    rcases hu with hu | hu
    · exact h3 hb u hu
    · omega
end VU
end T227_vr

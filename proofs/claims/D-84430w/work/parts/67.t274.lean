section T274_s1
/-! a signal whole (X 104 | Q 232) -/
def sgnS (κ : Int → Int) (gm : Int → Int) (cm : Int) (tm : Int → Bool) (ns a : Int) : Option Int := (snS κ tm a).bind fun a2 => if κ a2 = 240 then (SGL κ gm ns (a2, 0)).bind fun r => if r.2 = cm then some r.1 else none else if cm = 0 then some a2 else none
def z117 (V : vv_) (Kv : mm_ → Prop) (Qt : qt_) (M : mm_) : Prop := Tr_ wd0 pg0 130 117 [.inr (.inr 1), .inl 44] M (ri_ fun v2 M3 =>
     (if v2 = 0 then
      Tr_ wd0 pg0 130 121 [.inr (.inr 1), .inl 59] M3 (rv_ fun M4 => rv_ Kv [] M4) Qt
     else
      V 0 [rr 1, none, none, none, none] [] M3)) Qt
def q42 (dq : Nat) (N : mm_) (G : mm_ → Prop) (Qt : qt_) : Prop := ∀ V : vv_, Cl_ wd0 (Tr_ wd0 pg0 (dq + 18)) V (rv_ G) Qt m_232 → Wk_ V → Tr_ wd0 pg0 (dq + 18) 242 [.inr (.inr 6), .inl 44] N (ri_ fun v5 M6 => V 2 [rr 6, ii v5, none, none] [] M6) Qt
section S1g
variable {dq : Nat} {b F F1 : Int} {ns nr np t : Int} {Kv G : mm_ → Prop} {Qt Qtq : qt_} {V V' : vv_} {M N : mm_} {a : Int}
theorem q42_s [Inhabited gh_] (hV : Cl_ wd0 (Tr_ wd0 pg0 (dq + 18)) V' (rv_ G) Qtq m_232) (hW : Wk_ V') (hs : sp_ N) (h : G N) : Tr_ wd0 pg0 (dq + 18) 242 [.inr (.inr 6), .inl 44] N (ri_ fun v5 M6 => V' 2 [rr 6, ii v5, none, none] [] M6) Qtq := q_242s hs (q32_s hV hW hs h)
theorem q238z [Inhabited gh_] {x : Int} (hs : sp_ N) (h : G N) : Tr_ wd0 pg0 (dq + 18) 238 [.inr (.inr 6), .inl x] N (rv_ G) Qtq := t_238 fun V hV hW => b_238_0 (Tr_mono _) hV hW _ _ (q_239s hs (q38_s hV hW hs h))
/-- from V 78 on -/
theorem y_s78 [Inhabited gh_] {idx a1 : Int} (hV : Cl_ wd0 (Tr_ wd0 pg0 130) V (rv_ Kv) Qt m_104) (hW : Wk_ V) (h : SY0 b F (SGM b M ns 0) N a) (h31 : M 1 31 = ns) (hns : 0 ≤ ns ∧ ns < M 5 0) (hidx : b = 0 → idx = ns) (hS : b = 1 → (if M 70 a = 240 then (SGL (M 70) (M 113) ns (a, 0)).bind fun r => if r.2 = M 112 ns then some r.1 else none else if M 112 ns = 0 then some a else none) ≠ none)
    (hK : ∀ Me Ne a3 c, SY0 b F Me Ne a3 → a ≤ a3 → (∀ r : Nat, r ≠ 1 → r ≠ 112 → r ≠ 113 → Me r = M r) → (∀ i : Int, i ≠ 3 → i ≠ 31 → Me 1 i = M 1 i) → Me 1 31 = ns + 1 → Me 112 ns = c → (∀ i, i ≠ ns → Me 112 i = M 112 i) → (∀ i, i < 3 * ns ∨ 3 * ns + 3 ≤ i → Me 113 i = M 113 i) → (∀ r : Nat, r ≠ 6 → r ≠ 156 → r ≠ 157 → Ne r = N r) → (∀ i : Int, i ≠ 12 → Ne 6 i = N 6 i) → (b = 1 → (∀ r : Nat, r ≠ 1 → Me r = M r) ∧ (∀ r : Nat, r ≠ 6 → Ne r = N r)) → (∀ gm, (b = 0 → ∀ i, 3 * ns ≤ i → i < 3 * ns + c → gm i = Me 113 i) → (b = 1 → gm = M 113) → (if M 70 a = 240 then (SGL (M 70) gm ns (a, 0)).bind fun r => if r.2 = c then some r.1 else none else if c = 0 then some a else none) = some a3) → (∀ (G : mm_ → Prop) (Qtq : qt_), q42 dq Ne G Qtq → q75 dq idx N G Qtq) → z117 V Kv Qt Me)
    (hQ : b = 0 → ∀ Mx', XPb M Mx' → (∀ (G : mm_ → Prop) (Qtq : qt_), (∀ M', SQp Mx' N M' → G M') → q75 dq idx N G Qtq) → Qt 8 Mx') :
    V 78 [rr 1, ii a1, none, none, none] [] M := by
  have s20 := h.2.1.1.1.1
  rw [SGM_r (by decide)] at s20
  have hs := up31 h (ns + 1)
  have hE := SGM_E hs.1.2.1
  have hT := SGM_T hs.1.1
  have ha := ER_a hE
  have h01 := bl01 hE
  have m12 : M 1 2 = 5 := by have := h.1.2.2; rw [SGM_r (by decide)] at this; exact this
  have u : ∀ r : Nat, r ≠ 1 → up_ M 1 31 (ns + 1) r = M r := fun r h => up_ne h
  have u1 : ∀ i : Int, i ≠ 31 → up_ M 1 31 (ns + 1) 1 i = M 1 i := fun i h => up_of2 h
  have u31 : up_ M 1 31 (ns + 1) 1 31 = ns + 1 := up_at
  have xp : XPb M (up_ M 1 31 (ns + 1)) := fun r hr => u r (fun e => hr (by rw [e]; decide))
  have Tq : Tks (up_ M 1 31 (ns + 1)) N := hT
  refine b_104_78 (Tr_mono _) hV hW _ _ ?_
  rw [h31, w32_id (x := ns + 1) (by omega) (by omega)]
  generalize eS : up_ M 1 31 (ns + 1) = Ms at *
  have s70 : Ms 70 = M 70 := u 70 (by decide)
  refine y_117 hE (by decide) (fun k1 => ?_) (fun k1 => ?_)
  · rw [if_neg (by decide)]
    have k1' : M 70 a = 240 := by rw [← s70]; exact k1
    rw [if_pos k1'] at hS
    refine y_118 hE (fun _ => by decide) (fun _ _ => ?_) (fun _ e => absurd e (by decide))
    show V 108 [rr 1, ii a1, ii ns, ii 0, none] [] (o1_ Ms)
    have toQ0 : ∀ {G : mm_ → Prop} {Qtq : qt_}, (∀ V' : vv_, Cl_ wd0 (Tr_ wd0 pg0 (dq + 18)) V' (rv_ G) Qtq m_232 → Wk_ V' → ∀ V2 : vv_, Cl_ wd0 (Tr_ wd0 pg0 (dq + 17)) V2 (rv_ fun M7 => Tr_ wd0 pg0 (dq + 18) 242 [.inr (.inr 6), .inl 44] M7 (ri_ fun v6 M8 => V' 2 [rr 6, ii v6, none, none] [] M8) Qtq) Qtq m_238 → Wk_ V2 → Tr_ wd0 pg0 (dq + 17) 239 [.inr (.inr 6), .inl 40] N (rv_ fun M1 => V2 10 [rr 6, ii idx, ii 0, ii 1, none, none] [] M1) Qtq) → q75 dq idx N G Qtq := fun hq V' hV' hW' => j_237t hT hE (by decide) k1 (by
      rw [if_neg (by decide)]
      exact t_238 fun V2 hV2 hW2 => b_238_0 (Tr_mono _) hV2 hW2 _ _ (hq V' hV' hW' V2 hV2 hW2))
    by_cases h12 : a < 1200
    · have toQ : ∀ (G : mm_ → Prop) (Qtq : qt_), (∀ V' : vv_, Cl_ wd0 (Tr_ wd0 pg0 (dq + 18)) V' (rv_ G) Qtq m_232 → Wk_ V' → q38 dq idx 0 N (fun M7 => Tr_ wd0 pg0 (dq + 18) 242 [.inr (.inr 6), .inl 44] M7 (ri_ fun v6 M8 => V' 2 [rr 6, ii v6, none, none] [] M8) Qtq) Qtq) → q75 dq idx N G Qtq := fun G Qtq hq => toQ0 fun V' hV' hW' V2 hV2 hW2 => j_239t hT hE (by decide) k1 h12 (by decide) (by
        have := hq V' hV' hW' V2 hV2 hW2
        rw [← nx_q1] at this
        exact this)
      refine l_108 (dq := dq) (idx := idx) hV hW 1201 a 0 F Ms N (by omega) hs h12 (.inl (by rw [s70]; exact k1')) (by decide) (by rw [u 5 (by decide)]; exact hns) hidx (fun hb => by rw [s70, u 113 (by decide)]; exact bind_n (hS hb)) (fun M' N' a' j' H' ha' hj' f' k' h44 sy hq => ?_) (fun hb Mx' hx' hq => ?_)
      · have hE' := SGM_E H'.1.2.1
        have oE' := ER_o1 hE'
        have oT' : Tks (o1_ M') (q1_ N') := Tks_a (XF_XA o1_XF) (QF_QA q1_QF) (SGM_T H'.1.1)
        rw [s70, u 113 (by decide)] at sy
        have r70 : M' 70 = M 70 := (f'.1 70 (by decide) (by decide)).trans s70
        have o70 : o1_ M' 70 = M 70 := by rw [o1_r (by decide)]; exact r70
        have syb : b = 1 → SGL (M 70) (M 113) ns (a, 0) = (tS (M 70) 241 a').bind fun a5 => some (a5, j' + 1) := fun hb => sy _ (fun hb0 => by omega) (fun _ => rfl)
        have toQ1 : ∀ {G : mm_ → Prop} {Qtq : qt_}, (∀ V' : vv_, Cl_ wd0 (Tr_ wd0 pg0 (dq + 18)) V' (rv_ G) Qtq m_232 → Wk_ V' → Tr_ wd0 pg0 (dq + 17) 243 [.inr (.inr 6), .inl 41] (q1_ N') (rv_ fun M7 => rv_ (fun M7 => Tr_ wd0 pg0 (dq + 18) 242 [.inr (.inr 6), .inl 44] M7 (ri_ fun v6 M8 => V' 2 [rr 6, ii v6, none, none] [] M8) Qtq) [] M7) Qtq) → q75 dq idx N G Qtq := fun hq1 => toQ _ _ fun V' hV' hW' => hq _ _ fun V2 hV2 hW2 => b_238_10 (Tr_mono _) hV2 hW2 _ _ _ _ (by rw [if_pos rfl]; exact hq1 V' hV' hW')
        refine y_121 oE' (by decide) (fun hb => by
          rw [o70]
          have := bind_n (hS hb)
          rw [syb hb] at this; exact bind_n this) (fun k2 h13 _ => ?_) (fun hb k2 h13 => ?_) (fun hb k2 => ?_)
        · have k2' : M 70 a' = 241 := by rw [← o70]; exact k2
          have hE1 := (ER_go hE' h13 (by rw [r70, k2']; decide)).1
          have H1 : SY0 b F (SGM b (nX_ M') ns (j' + 1)) (nx_ N') (a' + 1) := by
            have e := SGM_E' (ns := ns) (j := j' + 1) hE1
            rw [SGM_nX] at e ⊢
            exact SY_go H' e
          have cb : b = 1 → j' + 1 = nX_ M' 112 ns := fun hb => by
            have := hS hb
            rw [syb hb, tS_e k2' h13, Option.bind_some, Option.bind_some] at this
            rw [nX_ne (by decide), f'.1 112 (by decide) (by decide), u 112 (by decide)]
            by_cases c : j' + 1 = M 112 ns
            · exact c
            · exact absurd (if_neg c) this
          have xr : ∀ r : Nat, r ≠ 1 → r ≠ 112 → r ≠ 113 → SGM b (nX_ M') ns (j' + 1) r = M r := fun r e1 e2 e3 => by rw [SGM_r e2, nX_ne e1, f'.1 r e1 e3, u r e1]
          refine ⟨by rw [nX_1 (by decide), o1_1 (by decide), f'.2.2.1 2 (by decide), u1 2 (by decide)]; exact m12, by omega, ?_⟩
          rw [o1_c hE'.2.2.2.1, SGM_up cb h01]
          refine hK _ (nx_ N') (a' + 1) (j' + 1) H1 (by omega) xr (fun i h3 h31' => by rw [SGM_r (by decide), nX_1 h3, f'.2.2.1 i h3, u1 i h31']) (by rw [SGM_r (by decide), nX_1 (by decide), f'.2.2.1 31 (by decide)]; exact u31) ?_ (fun i hi => ?_) (fun i hi => by rw [SGM_r (by decide), nX_ne (by decide), f'.2.1 i hi, u 113 (by decide)]) (fun r e1 e2 e3 => by rw [nx_ne e1, f'.2.2.2.1 r e1 e2 e3]) (fun i hi => by rw [nx_6 hi, f'.2.2.2.2.1 i hi]) (fun hb => ⟨fun r e1 => ?_, fun r e1 => by rw [nx_ne e1, (f'.2.2.2.2.2 hb).2 r e1]⟩) (fun gm g0 g1 => ?_) (fun G Qtq hg => toQ1 fun V' hV' hW' => j_243t oT' oE' (by decide) k2 h13 (by decide) (by
            rw [q1_c hE'.2.2.2.2.1]
            exact rv_i (hg V' hV' hW')))
          · rw [← SGM_up cb h01, up_at]
          · rw [← SGM_up cb h01, up_of2 hi, nX_ne (by decide), f'.1 112 (by decide) (by decide), u 112 (by decide)]
          · unfold SGM; rw [if_neg (by omega), nX_ne e1, (f'.2.2.2.2.2 hb).1 r e1, u r e1]
          · rw [if_pos k1', sy gm (fun hb i i0 i1 => by rw [g0 hb i i0 i1, SGM_r (by decide), nX_ne (by decide)]) g1, tS_e k2' h13, Option.bind_some, Option.bind_some]
            exact if_pos rfl
        · have hsp := SQ_bf oE' hb (k := 2) (by decide) QA_rf
          exact hQ hb _ (XPb_tr xp (XPb_tr (XPb_tr (SGF_X f') XPb_o1) XPb_fl)) (fun G Qtq hg => toQ1 fun V' hV' hW' => j_243r oT' oE' hb (by decide) k2 h13 (rv_i (q42_s hV' hW' hsp.1 (hg _ (SQp_tr (QPb_tr (SGF_Q f') QPb_q1) (SQ_P hsp))))))
        · have hsp := SQ_bf oE' hb (k := 1) (by decide) QA_rf
          exact hQ hb _ (XPb_tr xp (XPb_tr (XPb_tr (SGF_X f') XPb_o1) XPb_fl)) (fun G Qtq hg => toQ1 fun V' hV' hW' => j_243w oT' oE' hb (by decide) k2 (rv_i (q42_s hV' hW' hsp.1 (hg _ (SQp_tr (QPb_tr (SGF_Q f') QPb_q1) (SQ_P hsp))))))
      · exact hQ hb Mx' (XPb_tr xp hx') (fun G Qtq hg => toQ G Qtq fun V' hV' hW' => hq _ _ fun M9 p => q42_s hV' hW' p.1 (hg _ p))
    · rcases h01 with hb | hb
      · have oE := ER_o1 hE
        refine b_104_108 (Tr_mono _) hV hW _ _ _ _ ?_
        refine y_105 oE (by rw [o1_r (by decide), s70, k1']; decide) (fun hb1 => by omega) (fun h16 _ => by omega) (fun _ h16 => ?_)
        have hsp := SQ_bf oE hb (k := 2) (by decide) QA_rf
        exact hQ hb _ (XPb_tr xp (XPb_tr XPb_o1 XPb_fl)) (fun G Qtq hg => toQ0 fun V' hV' hW' V2 hV2 hW2 => j_239r hT hE hb (by decide) k1 h16 (by decide) (q38_s hV2 hW2 hsp.1 (q42_s hV' hW' hsp.1 (hg _ (SQp_tr QPb_q1 (SQ_P hsp))))))
      · exact absurd (SGL_g ha.1 ha.2 (bind_n (hS hb))) h12
  · rw [if_pos rfl]
    have k1' : M 70 a ≠ 240 := by rw [← s70]; exact k1
    rw [if_neg k1'] at hS
    have cb : b = 1 → 0 = Ms 112 ns := fun hb => by
      have := hS hb
      rw [u 112 (by decide)]
      by_cases c : M 112 ns = 0
      · exact c.symm
      · exact absurd (if_neg c) this
    refine ⟨by rw [u1 2 (by decide)]; exact m12, by omega, ?_⟩
    rw [SGM_up cb h01]
    refine hK _ N a 0 hs (Int.le_refl _) (fun r e1 e2 e3 => by rw [SGM_r e2, u r e1]) (fun i _ h31' => by rw [SGM_r (by decide), u1 i h31']) (by rw [SGM_r (by decide)]; exact u31) (by rw [← SGM_up cb h01, up_at]) (fun i hi => by rw [← SGM_up cb h01, up_of2 hi, u 112 (by decide)]) (fun i _ => by rw [SGM_r (by decide), u 113 (by decide)]) (fun _ _ _ _ => rfl) (fun _ _ => rfl) (fun hb => ⟨fun r e1 => by unfold SGM; rw [if_neg (by omega), u r e1], fun _ _ => rfl⟩) (fun gm _ _ => by rw [if_neg k1']; exact if_pos rfl) (fun G Qtq hg V' hV' hW' => j_237f hT hE (by decide) k1 (by rw [if_pos rfl]; exact hg V' hV' hW'))
end S1g
end T274_s1
section T275_s2
/-! one signal, from SYS to SYS -/
def SGR (b : Int) (M N M1 N1 : mm_) : Prop := ((∀ k : Nat, k ∉ [1, 5, 56, 112, 113] → M1 k = M k) ∧ (∀ i : Int, i ≠ 0 → M1 5 i = M 5 i) ∧ (∀ i : Int, i ∉ [3, 4, 5, 7, 31] → M1 1 i = M 1 i)) ∧ (∀ k : Nat, k ∉ [6, 152, 155, 156, 157, 190, 191] → N1 k = N k) ∧ (∀ i : Int, i ∉ [12, 13, 14, 17, 58] → N1 6 i = N 6 i) ∧ (b = 1 → (∀ k : Nat, k ≠ 6 → N1 k = N k) ∧ (∀ i : Int, i ∉ [12, 13, 14] → N1 6 i = N 6 i) ∧ (N1 6 13 = 0 → N 6 13 = 0))
section S2g
variable {dq : Nat} {b F F1 : Int} {ns nr np t : Int} {Kv G : mm_ → Prop} {Qt Qtq : qt_} {V V' : vv_} {M N : mm_} {a : Int}
theorem SGR_tr [Inhabited gh_] {M1 N1 M2 N2 : mm_} (h : SGR b M N M1 N1) (g : SGR b M1 N1 M2 N2) : SGR b M N M2 N2 := ⟨⟨fun k hk => (g.1.1 k hk).trans (h.1.1 k hk), fun i hi => (g.1.2.1 i hi).trans (h.1.2.1 i hi), fun i hi => (g.1.2.2 i hi).trans (h.1.2.2 i hi)⟩, fun k hk => (g.2.1 k hk).trans (h.2.1 k hk), fun i hi => (g.2.2.1 i hi).trans (h.2.2.1 i hi), fun hb => ⟨fun k hk => ((g.2.2.2 hb).1 k hk).trans ((h.2.2.2 hb).1 k hk), fun i hi => ((g.2.2.2 hb).2.1 i hi).trans ((h.2.2.2 hb).2.1 i hi), fun hz => (h.2.2.2 hb).2.2 ((g.2.2.2 hb).2.2 hz)⟩⟩
theorem SGR_go [Inhabited gh_] : SGR b M N (nX_ M) (nx_ N) := ⟨⟨fun k hk => nX_ne (fun e => hk (by rw [e]; decide)), fun i _ => by rw [nX_ne (by decide)], fun i hi => nX_1 (nm_i hi (by decide))⟩, fun k hk => nx_ne (fun e => hk (by rw [e]; decide)), fun i hi => nx_6 (nm_i hi (by decide)), fun _ => ⟨fun k hk => nx_ne hk, fun i hi => nx_6 (nm_i hi (by decide)), fun hz => by rw [nx_6 (by decide)] at hz; exact hz⟩⟩
theorem SGR_Q [Inhabited gh_] {M1 N1 : mm_} (h : SGR b M N M1 N1) : QPb N N1 := ⟨fun k hk => h.2.1 k (fun e => hk (by simp only [List.mem_cons, List.not_mem_nil, or_false] at e; unfold QPRr; omega)), fun i hi => h.2.2.1 i (fun e => hi (by simp only [qpI, List.mem_cons, List.not_mem_nil, or_false] at e ⊢; omega))⟩
theorem y_sgw [Inhabited gh_] (hV : Cl_ wd0 (Tr_ wd0 pg0 130) V (rv_ Kv) Qt m_104) (hW : Wk_ V) (h : SYS b F M N a ns nr np) (hkd : M 70 a ≠ 102 ∧ M 70 a ≠ 103) (h12 : a < 1200) (hS : b = 1 → sgnS (M 70) (M 113) (M 112 ns) (TSG M ns) ns a ≠ none)
    (hK : ∀ F' Me Ne a3, SYS b F' Me Ne a3 (ns + 1) nr np → a + 2 ≤ a3 → XPb M Me → SGR b M N Me Ne → Me 70 = M 70 → ((∀ i, i < ns → Me 112 i = M 112 i ∧ Me 56 i = M 56 i) ∧ ∀ i, i < 3 * ns → Me 113 i = M 113 i) → (b = 1 → ∀ r : Nat, r ≠ 1 → Me r = M r) → (F' ≤ F ∧ (b = 1 → F' = F) ∧ GNO b F F' M N Ne (a + 1)) → (Me 56 ns = a + 1 ∧ ns < Me 5 0) → (∀ gm cm tm, tm (a + 1) = true → (b = 0 → cm = Me 112 ns ∧ ∀ i, 3 * ns ≤ i → i < 3 * ns + cm → gm i = Me 113 i) → (b = 1 → gm = M 113 ∧ cm = M 112 ns) → sgnS (M 70) gm cm tm ns a = some a3) → (∀ (G : mm_ → Prop) (Qtq : qt_), q42 dq Ne G Qtq → q32 dq N G Qtq) → z117 V Kv Qt Me)
    (hQ : b = 0 → ∀ Mx', XPb M Mx' → (∀ (G : mm_ → Prop) (Qtq : qt_), (∀ M', SQp Mx' N M' → G M') → q32 dq N G Qtq) → Qt 8 Mx') :
    V 0 [rr 1, none, none, none, none] [] M := by
  have h01 := bl01 h.1.1.2.1
  have hns := h.2.1.2.1.1
  refine y_snm (dq := dq) hV hW h hkd (fun hb => bind_n (hS hb)) h12 (fun F1 Mz Nz idx Z z0 z1 k56 k50 fF sy hq => ?_) hQ
  have nX2 : ∀ r : Nat, r ≠ 1 → nX_ (nX_ M) r = M r := fun r h => by rw [nX_ne h, nX_ne h]
  have e50 : b = 0 → gd1_ (nX_ (nX_ M)) (nx_ (nx_ N)) (a + 1) 5 0 = ns := fun hb => by rw [gd1_r (by decide), nX2 5 (by decide)]; exact (h.2.1.2.2 hb).1
  have xr : ∀ r : Nat, r ≠ 1 → r ≠ 5 → r ≠ 56 → Mz r = M r := fun r e1 e5 e6 => by
    rcases h01 with hb | hb
    · rw [(z0 hb).2.1, sx1_r e5 e6, gd1_r e1, nX2 r e1]
    · rw [(z1 hb).1, nX2 r e1]
  have x5 : ∀ i : Int, i ≠ 0 → Mz 5 i = M 5 i := fun i hi => by
    rcases h01 with hb | hb
    · rw [(z0 hb).2.1, sx1_5 hi, gd1_r (by decide), nX2 5 (by decide)]
    · rw [(z1 hb).1, nX2 5 (by decide)]
  have x1 : ∀ i : Int, i ≠ 3 → i ≠ 4 → i ≠ 5 → i ≠ 7 → Mz 1 i = M 1 i := fun i h3 h4 h5 h7 => by
    rcases h01 with hb | hb
    · rw [(z0 hb).2.1, sx1_r (by decide) (by decide), gd1_1 h4 h5 h7, nX_1 h3, nX_1 h3]
    · rw [(z1 hb).1, nX_1 h3, nX_1 h3]
  have x56 : ∀ i, i < ns → Mz 56 i = M 56 i := fun i hi => by
    rcases h01 with hb | hb
    · rw [(z0 hb).2.1, sx1_o (by rw [e50 hb]; omega), gd1_r (by decide), nX2 56 (by decide)]
    · rw [(z1 hb).1, nX2 56 (by decide)]
  have qr : ∀ r : Nat, r ≠ 6 → r ≠ 152 → r ≠ 155 → r ≠ 156 → r ≠ 190 → r ≠ 191 → Nz r = N r := fun r a1 a2 a3 a4 a5 a6 => by
    rcases h01 with hb | hb
    · rw [(z0 hb).2.2, sq_r (by simp only [List.mem_cons, List.not_mem_nil, or_false]; omega), gq_r a1 a5 a6, nx_ne a1, nx_ne a1]
    · rw [GWI_r (z1 hb).2 a1, nx_ne a1, nx_ne a1]
  have q6 : ∀ i : Int, i ≠ 12 → i ≠ 13 → i ≠ 14 → i ≠ 17 → i ≠ 58 → Nz 6 i = N 6 i := fun i a1 a2 a3 a4 a5 => by
    rcases h01 with hb | hb
    · rw [(z0 hb).2.2, sq_6 a4, gq_6 a5, nx_6 a1, nx_6 a1]
    · rw [GWI_6 (z1 hb).2 a2 a3, nx_6 a1, nx_6 a1]
  have z70 : Mz 70 = M 70 := xr 70 (by decide) (by decide) (by decide)
  have xp : XPb M Mz := fun r hr => xr r (fun e => hr (by rw [e]; decide)) (fun e => hr (by rw [e]; decide)) (fun e => hr (by rw [e]; decide))
  have qp : QPb N Nz := ⟨fun r hr => qr r (fun e => hr (by unfold QPRr; omega)) (fun e => hr (by unfold QPRr; omega)) (fun e => hr (by unfold QPRr; omega)) (fun e => hr (by unfold QPRr; omega)) (fun e => hr (by unfold QPRr; omega)) (fun e => hr (by unfold QPRr; omega)), fun i hi => q6 i (nm_i hi (by decide)) (nm_i hi (by decide)) (nm_i hi (by decide)) (nm_i hi (by decide)) (nm_i hi (by decide))⟩
  have k113 : Mz 113 = M 113 := xr 113 (by decide) (by decide) (by decide)
  have k112 : Mz 112 = M 112 := xr 112 (by decide) (by decide) (by decide)
  have syb : b = 1 → snS (M 70) (TSG M ns) a = some (a + 2) := fun hb => sy _ (by
    unfold TSG
    refine decide_eq_true ⟨?_, ?_⟩
    · rw [(z1 hb).1, nX2 5 (by decide)] at k50; exact k50
    · rw [(z1 hb).1, nX2 56 (by decide)] at k56; exact k56)
  refine y_s78 (dq := dq) (idx := idx) hV hW Z (by rw [x1 31 (by decide) (by decide) (by decide) (by decide)]; exact h.2.1.1.1) ⟨hns, k50⟩ (fun hb => (z0 hb).1) (fun hb => ?_) (fun Me Ne a3 c Y ha3 yr y1 y31 yc y112 y113 yq y6 yb sy2 hq2 => ?_) (fun hb Mx' hx' hq' => ?_)
  · have := hS hb
    unfold sgnS at this
    rw [syb hb, Option.bind_some] at this
    rw [z70, k113, k112]; exact this
  · have me : ∀ r : Nat, r ≠ 1 → r ≠ 5 → r ≠ 56 → r ≠ 112 → r ≠ 113 → Me r = M r := fun r a1 a2 a3 a4 a5 => by rw [yr r a1 a4 a5, xr r a1 a2 a3]
    have m5 : Me 5 = Mz 5 := yr 5 (by decide) (by decide) (by decide)
    have m56 : Me 56 = Mz 56 := yr 56 (by decide) (by decide) (by decide)
    have S3 : SYS b F1 Me Ne a3 (ns + 1) nr np := SYS_sg h Y ⟨y31, by rw [y1 32 (by decide) (by decide), x1 32 (by decide) (by decide) (by decide) (by decide)], by rw [y1 33 (by decide) (by decide), x1 33 (by decide) (by decide) (by decide) (by decide)]⟩ (fun hb => ⟨by rw [m5, (z0 hb).2.1, sx1_k.1, e50 hb], by rw [m5, x5 1 (by decide)]⟩) (by rw [m5, x5 2 (by decide)]) (fun r hr => by
      simp only [rwX, List.mem_cons, List.not_mem_nil, or_false] at hr
      exact me r (by omega) (by omega) (by omega) (by omega) (by omega)) (fun r hr => by
      simp only [rwQ, List.mem_cons, List.not_mem_nil, or_false] at hr
      rw [yq r (by omega) (by omega) (by omega), qr r (by omega) (by omega) (by omega) (by omega) (by omega) (by omega)])
    refine hK F1 Me Ne a3 S3 (by omega) (XPb_tr xp (fun r hr => yr r (fun e => hr (by rw [e]; decide)) (fun e => hr (by rw [e]; decide)) (fun e => hr (by rw [e]; decide)))) ⟨⟨fun k hk => me k (fun e => hk (by rw [e]; decide)) (fun e => hk (by rw [e]; decide)) (fun e => hk (by rw [e]; decide)) (fun e => hk (by rw [e]; decide)) (fun e => hk (by rw [e]; decide)), fun i hi => by rw [m5, x5 i hi], fun i hi => by rw [y1 i (nm_i hi (by decide)) (nm_i hi (by decide)), x1 i (nm_i hi (by decide)) (nm_i hi (by decide)) (nm_i hi (by decide)) (nm_i hi (by decide))]⟩, fun k hk => by rw [yq k (fun e => hk (by rw [e]; decide)) (fun e => hk (by rw [e]; decide)) (fun e => hk (by rw [e]; decide)), qr k (fun e => hk (by rw [e]; decide)) (fun e => hk (by rw [e]; decide)) (fun e => hk (by rw [e]; decide)) (fun e => hk (by rw [e]; decide)) (fun e => hk (by rw [e]; decide)) (fun e => hk (by rw [e]; decide))], fun i hi => by rw [y6 i (nm_i hi (by decide)), q6 i (nm_i hi (by decide)) (nm_i hi (by decide)) (nm_i hi (by decide)) (nm_i hi (by decide)) (nm_i hi (by decide))], fun hb => by
      have P1 : PZ 1 F F M N (nX_ (nX_ M)) Nz 0 := PZ_1 (z1 hb).2
      exact ⟨fun k hk => by rw [(yb hb).2 k hk, GWI_r (z1 hb).2 hk, nx_ne hk, nx_ne hk], fun i hi => by rw [y6 i (nm_i hi (by decide)), GWI_6 (z1 hb).2 (nm_i hi (by decide)) (nm_i hi (by decide)), nx_6 (nm_i hi (by decide)), nx_6 (nm_i hi (by decide))], fun hz => by rw [y6 13 (by decide)] at hz; exact (P1.2.2.1 rfl).2.2.2 hz⟩⟩ (me 70 (by decide) (by decide) (by decide) (by decide) (by decide)) ⟨fun i hi => ⟨by rw [y112 i (by omega), k112], by rw [m56, x56 i hi]⟩, fun i hi => by rw [y113 i (.inl hi), k113]⟩ (fun hb r e1 => by rw [(yb hb).1 r e1, (z1 hb).1, nX2 r e1]) ⟨fF.1, fF.2.1, GNO_le fF.2.2 fun _ => by rw [y6 13 (by decide), y6 14 (by decide)]; exact Int.le_refl _⟩ ⟨by rw [m56]; exact k56, by rw [m5]; exact k50⟩ (fun gm cm tm ht g0 g1 => ?_) (fun G Qtq hg => hq G Qtq (hq2 G Qtq hg))
    have cc : cm = c := by
      rcases h01 with hb | hb
      · rw [(g0 hb).1]; exact yc
      · rw [(g1 hb).2, ← yc, (yb hb).1 112 (by decide), k112]
    rw [z70, k113] at sy2
    have e2 := sy2 gm (fun hb i i0 i1 => (g0 hb).2 i i0 (by omega)) (fun hb => (g1 hb).1)
    unfold sgnS
    rw [sy tm ht, Option.bind_some, cc]; exact e2
  · exact hQ hb Mx' (XPb_tr xp hx') (fun G Qtq hg => hq G Qtq (hq' G Qtq fun M9 p => hg _ (SQp_tr qp p)))
end S2g
end T275_s2
section T276_s3
/-! the signals of a line (X 104 | Q 232) -/
def sgsT (κ gm cms : Int → Int) (tms : Int → Int → Bool) (s : sj_) : Option (sj_ ⊕ sj_) := (sgnS κ gm (cms s.2) (tms s.2) s.2 s.1).bind fun a3 => if κ a3 = 244 then some (.inl (a3, s.2 + 1)) else (tS κ 259 a3).bind fun a4 => some (.inr (a4, s.2 + 1))
def SGS (κ gm cms : Int → Int) (tms : Int → Int → Bool) (s : sj_) : Option sj_ := LQ (sgsT κ gm cms tms) s
def SGO (b : Int) (gm cms : Int → Int) (tms : Int → Int → Bool) (ns ns' : Int) (M Me : mm_) : Prop := (b = 0 → ∀ k, ns ≤ k → k < ns' → cms k = Me 112 k ∧ tms k (Me 56 k) = true ∧ ∀ i, 3 * k ≤ i → i < 3 * k + cms k → gm i = Me 113 i) ∧ (b = 1 → gm = M 113 ∧ cms = M 112 ∧ tms = TSG M)
section S3g
variable {κ gm cms : Int → Int} {tms : Int → Int → Bool} {ns a : Int}
theorem SGL_s [Inhabited gh_] {s r : sj_} (h0 : 0 ≤ s.1) (h1 : s.1 ≤ 1200) (h : SGL κ gm ns s = some r) : s.1 ≤ r.1 ∧ r.1 ≤ 1200 := by
  exact lqS_r (step := sgT κ gm ns) (fun s => s.1) (fun s => s.1) (fun s s' => sgT_l s s') (fun s a h0 h1 h => by
    unfold sgT at h
    obtain ⟨y1, e1, h⟩ := bind_s h
    have g1 := gS_s e1
    split at h
    · cases h
    · obtain ⟨y2, e2, h⟩ := bind_s h
      unfold srS at e2
      split at e2
      · have g2 := gS_s e2
        split at h
        · split at h
          · injection h with h; cases h
          · obtain ⟨y3, e3, h⟩ := bind_s h
            have g3 := tS_s e3
            injection h with h; injection h with h; rw [← h]; show s.1 ≤ y3 ∧ y3 ≤ 1200; omega
        · cases h
      · cases e2) 1300 s r h0 h1 h
theorem sgnS_s [Inhabited gh_] {cm : Int} {tm : Int → Bool} {r : Int} (h0 : 0 ≤ a) (h1 : a ≤ 1200) (h : sgnS κ gm cm tm ns a = some r) : a + 2 ≤ r ∧ r ≤ 1200 := by
  unfold sgnS at h
  obtain ⟨x, e, h⟩ := bind_s h
  have g : a + 2 ≤ x ∧ x ≤ 1200 := by
    unfold snS at e
    obtain ⟨y, e1, e⟩ := bind_s e
    have g1 := gS_s e1
    obtain ⟨z, e2, e⟩ := bind_s e
    have g2 := tS_s e2
    split at e
    · injection e with e; omega
    · cases e
  split at h
  · obtain ⟨y, e1, h⟩ := bind_s h
    have g1 := SGL_s (s := (x, 0)) (show (0 : Int) ≤ x by omega) (show x ≤ 1200 by omega) e1
    have g1' : x ≤ y.1 ∧ y.1 ≤ 1200 := g1
    split at h
    · injection h with h; omega
    · cases h
  · split at h
    · injection h with h; omega
    · cases h
theorem sgsT_l [Inhabited gh_] (s s' : sj_) (h0 : 0 ≤ s.1) (h1 : s.1 ≤ 1200) (h : sgsT κ gm cms tms s = some (.inl s')) : s.1 + 1 ≤ s'.1 ∧ s'.1 ≤ 1200 := by
  unfold sgsT at h
  obtain ⟨x, e, h⟩ := bind_s h
  have g := sgnS_s h0 h1 e
  split at h
  · injection h with h; injection h with h; rw [← h]; show s.1 + 1 ≤ x ∧ x ≤ 1200; omega
  · obtain ⟨y, e2, h⟩ := bind_s h
    injection h with h; cases h
theorem SGS_u [Inhabited gh_] (h0 : 0 ≤ a) (h1 : a ≤ 1200) : SGS κ gm cms tms (a, ns) = (sgsT κ gm cms tms (a, ns)).bind (lk9 (SGS κ gm cms tms)) := LQ_u (step := sgsT κ gm cms tms) (fun s => s.1) (fun s s' => sgsT_l s s') (s := (a, ns)) h0 h1
theorem sgsT_y [Inhabited gh_] {L : sj_ → Option sj_} {X : Option Int} (hX : sgnS κ gm (cms ns) (tms ns) ns a = X) : (sgsT κ gm cms tms (a, ns)).bind (lk9 L) = X.bind fun a3 => if κ a3 = 244 then L (a3, ns + 1) else (tS κ 259 a3).bind fun a4 => some (a4, ns + 1) := by
  unfold sgsT
  show ((sgnS κ gm (cms ns) (tms ns) ns a).bind _).bind _ = _
  rw [hX]
  cases X with
  | none => rfl
  | some x =>
    rw [Option.bind_some, Option.bind_some]
    by_cases c : κ x = 244
    · rw [if_pos c, if_pos c]; rfl
    · rw [if_neg c, if_neg c]
      cases tS κ 259 x with
      | none => rfl
      | some y => rfl
theorem SGS_e [Inhabited gh_] (h0 : 0 ≤ a) (h1 : a ≤ 1200) : SGS κ gm cms tms (a, ns) = (sgnS κ gm (cms ns) (tms ns) ns a).bind fun a3 => if κ a3 = 244 then SGS κ gm cms tms (a3, ns + 1) else (tS κ 259 a3).bind fun a4 => some (a4, ns + 1) := (SGS_u h0 h1).trans (sgsT_y rfl)
end S3g
end T276_s3
section T277_s4
/-! the signals of a line: the loop (X 104 | Q 232) -/
def GDU (M N : mm_) (f : Int) : Prop := ∃ u v, (GLM M u ∧ GLM M v ∧ u < v) ∧ N 151 u = N 151 v ∧ f = 8 * M 71 v + 3
/-- told twice: what a line of signals says -/
def SGN (b F F' : Int) (M N M' N' : mm_) (ns ns' : Int) : Prop := (b = 0 → F' = F ∨ GDU M' N' F') ∧ (b = 1 → kk_ (N' 6 13) (N' 6 14) ≤ kk_ (N 6 13) (N 6 14) ∧ ∀ k, ns ≤ k → k < ns' → TDW M N (M 56 k) → kk_ (N' 6 13) (N' 6 14) ≤ 8 * M 71 (M 56 k) + 3)
theorem GDU_c [Inhabited gh_] {M N M1 N1 : mm_} {f : Int} (h : GDU M N f) (hg : ∀ u, GLM M u → GLM M1 u) (h71 : M1 71 = M 71) (h151 : N1 151 = N 151) : GDU M1 N1 f := by
  obtain ⟨u, v, ⟨a1, a2, a3⟩, a4, a5⟩ := h
  exact ⟨u, v, ⟨hg u a1, hg v a2, a3⟩, by rw [h151]; exact a4, by rw [h71]; exact a5⟩
theorem TDW_c [Inhabited gh_] {M N M1 N1 : mm_} {t : Int} (hx : ∀ r : Nat, r ∈ [5, 56, 57, 58] → M1 r = M r) (h151 : N1 151 = N 151) : TDW M1 N1 t ↔ TDW M N t := by
  unfold TDW GLM
  rw [hx 5 (by decide), hx 56 (by decide), hx 57 (by decide), hx 58 (by decide), h151]
theorem GLM_sg [Inhabited gh_] {b ns : Int} {M N M1 N1 : mm_} (g : SGR b M N M1 N1) (h56 : ∀ i, i < ns → M1 56 i = M 56 i) (h0 : M 5 0 = ns) (h1 : ns ≤ M1 5 0) {u : Int} (h : GLM M u) : GLM M1 u := by
  rcases h with ⟨k, hk, e⟩ | ⟨k, hk, e⟩ | ⟨k, hk, e⟩
  · exact .inl ⟨k, by omega, by rw [h56 k (by omega)]; exact e⟩
  · exact .inr (.inl ⟨k, by rw [g.1.2.1 1 (by decide)]; exact hk, by rw [g.1.1 57 (by decide)]; exact e⟩)
  · exact .inr (.inr ⟨k, by rw [g.1.2.1 2 (by decide)]; exact hk, by rw [g.1.1 58 (by decide)]; exact e⟩)
theorem SGN_1 [Inhabited gh_] {b F F1 a ns nr np : Int} {M N Me Ne : mm_} (h : SYS b F M N a ns nr np) (gn : GNO b F F1 M N Ne (a + 1)) (k56 : Me 56 ns = a + 1 ∧ ns < Me 5 0) (g : SGR b M N Me Ne) (rw3 : ∀ i, i < ns → Me 56 i = M 56 i) (rb : b = 1 → ∀ r : Nat, r ≠ 1 → Me r = M r) : SGN b F F1 M N Me Ne ns (ns + 1) := by
  have hns := h.2.1.2.1.1
  refine ⟨fun hb => ?_, fun hb => ⟨(gn.2 hb).1, fun k k0 k1 hk => ?_⟩⟩
  · rcases gn.1 hb with z | ⟨⟨u, hu, he⟩, z⟩
    · exact .inl z
    · have lt := h.1.2.2.2.1.2 hb u hu
      refine .inr ⟨u, a + 1, ⟨GLM_sg g rw3 (h.2.1.2.2 hb).1 (by omega) hu, .inl ⟨ns, ⟨hns, k56.2⟩, k56.1⟩, by omega⟩, by rw [g.2.1 151 (by decide)]; exact he, by rw [g.1.1 71 (by decide)]; exact z⟩
  · have e : k = ns := by omega
    have k5 := k56.1
    rw [rb hb 56 (by decide)] at k5
    rw [e, k5] at hk ⊢
    exact (gn.2 hb).2 hk
theorem SGN_tr [Inhabited gh_] {b F F1 F2 n0 n1 n2 : Int} {M N M1 N1 M2 N2 : mm_} (s1 : SGN b F F1 M N M1 N1 n0 n1) (s2 : SGN b F1 F2 M1 N1 M2 N2 n1 n2) (gl : b = 0 → ∀ u, GLM M1 u → GLM M2 u) (g : SGR b M N M1 N1) (g2 : SGR b M1 N1 M2 N2) (rb : b = 1 → ∀ r : Nat, r ≠ 1 → M1 r = M r) : SGN b F F2 M N M2 N2 n0 n2 := by
  refine ⟨fun hb => ?_, fun hb => ⟨Int.le_trans (s2.2 hb).1 (s1.2 hb).1, fun k k0 k1 hk => ?_⟩⟩
  · rcases s2.1 hb with z | z
    · rcases s1.1 hb with y | y
      · exact .inl (z.trans y)
      · right; rw [z]; exact GDU_c y (gl hb) (g2.1.1 71 (by decide)) (g2.2.1 151 (by decide))
    · exact .inr z
  · by_cases c : k < n1
    · exact Int.le_trans (s2.2 hb).1 ((s1.2 hb).2 k k0 c hk)
    · have r := rb hb
      have := (s2.2 hb).2 k (by omega) k1 (by
        rw [r 56 (by decide), TDW_c (fun x hx => r x (fun e => by rw [e] at hx; revert hx; decide)) (g.2.1 151 (by decide))]; exact hk)
      rw [r 56 (by decide), r 71 (by decide)] at this; exact this
theorem SGN_go [Inhabited gh_] {b F F1 n0 n1 : Int} {M N M1 N1 : mm_} (s : SGN b F F1 M N M1 N1 n0 n1) : SGN b F F1 M N (nX_ M1) (nx_ N1) n0 n1 := by
  refine ⟨fun hb => (s.1 hb).imp id fun z => GDU_c z (fun u hu => ?_) (nX_ne (by decide)) (nx_ne (by decide)), fun hb => by rw [nx_6 (by decide), nx_6 (by decide)]; exact s.2 hb⟩
  unfold GLM at hu ⊢
  rw [nX_ne (by decide), nX_ne (by decide), nX_ne (by decide), nX_ne (by decide)]; exact hu
section S4g
variable {dq : Nat} {b nr np : Int} {Kv : mm_ → Prop} {Qt : qt_} {V : vv_}
theorem l_104 [Inhabited gh_] (hV : Cl_ wd0 (Tr_ wd0 pg0 130) V (rv_ Kv) Qt m_104) (hW : Wk_ V) :
    ∀ (n : Nat) (a F ns : Int) (M N : mm_), 1201 - a ≤ (n : Int) → SYS b F M N a ns nr np → a < 1200 → (M 70 a ≠ 102 ∧ M 70 a ≠ 103) → (b = 1 → SGS (M 70) (M 113) (M 112) (TSG M) (a, ns) ≠ none) →
    (∀ F' M' N' a' ns', SYS b F' M' N' a' ns' nr np → a + 3 ≤ a' → ns + 1 ≤ ns' → XPb M M' → SGR b M N M' N' → M' 70 = M 70 → ((∀ i, i < ns → M' 112 i = M 112 i ∧ M' 56 i = M 56 i) ∧ ∀ i, i < 3 * ns → M' 113 i = M 113 i) → (b = 1 → ∀ r : Nat, r ≠ 1 → M' r = M r) → (F' ≤ F ∧ (b = 1 → F' = F) ∧ SGN b F F' M N M' N' ns ns') → (∀ gm cms tms, SGO b gm cms tms ns ns' M M' → SGS (M 70) gm cms tms (a, ns) = some (a', ns')) → (∀ (G : mm_ → Prop) (Qtq : qt_), G N' → q32 dq N G Qtq) → Kv M') →
    (b = 0 → ∀ Mx', XPb M Mx' → (∀ (G : mm_ → Prop) (Qtq : qt_), (∀ M', SQp Mx' N M' → G M') → q32 dq N G Qtq) → Qt 8 Mx') →
    V 0 [rr 1, none, none, none, none] [] M
  | 0, a, F, ns, M, N, hn, h, h12, _, _, _, _ => by omega
  | n + 1, a, F, ns, M, N, hn, h, h12, hkd, hS, hK, hQ => by
    have ha := ER_a h.1.1.2.1
    have h01 := bl01 h.1.1.2.1
    have hns := h.2.1.2.1.1
    have eS : ∀ gm cms tms, SGS (M 70) gm cms tms (a, ns) = (sgnS (M 70) gm (cms ns) (tms ns) ns a).bind fun a3 => if M 70 a3 = 244 then SGS (M 70) gm cms tms (a3, ns + 1) else (tS (M 70) 259 a3).bind fun a4 => some (a4, ns + 1) := fun gm cms tms => SGS_e ha.1 ha.2
    refine y_sgw (dq := dq) hV hW h hkd h12 (fun hb => by have := hS hb; rw [eS] at this; exact bind_n this) (fun F' Me Ne a3 S3 ha3 xp qp r70 rw3 rb fF k56 sy hq => ?_) hQ
    have g1 := SGN_1 h fF.2.2 k56 qp (fun i hi => (rw3.1 i hi).2) rb
    have hE3 := S3.1.1.2.1
    have hT3 := S3.1.1.1
    have c3 : Me 112 ns ≤ 3 ∧ 0 ≤ Me 112 ns := by
      have := (S3.1.2.1.1.2 ns hns k56.2).1
      omega
    have tsg : b = 1 → TSG Me = TSG M := fun hb => by unfold TSG; rw [rb hb 5 (by decide), rb hb 56 (by decide)]
    have tb : b = 1 → TSG M ns (a + 1) = true := fun hb => by
      unfold TSG
      have k := k56
      rw [rb hb 5 (by decide), rb hb 56 (by decide)] at k
      exact decide_eq_true ⟨k.2, k.1⟩
    have syb : b = 1 → sgnS (M 70) (M 113) (M 112 ns) (TSG M ns) ns a = some a3 := fun hb => sy _ _ _ (tb hb) (fun hb0 => by omega) (fun _ => ⟨rfl, rfl⟩)
    have first : ∀ gm cms tms ns' M', SGO b gm cms tms ns ns' M M' → ns < ns' → (b = 0 → M' 112 ns = Me 112 ns ∧ M' 56 ns = Me 56 ns ∧ ∀ i, i < 3 * (ns + 1) → M' 113 i = Me 113 i) → sgnS (M 70) gm (cms ns) (tms ns) ns a = some a3 := fun gm cms tms ns' M' ok hl hb0 => by
      refine sy gm (cms ns) (tms ns) ?_ (fun hb => ?_) (fun hb => ⟨(ok.2 hb).1, by rw [(ok.2 hb).2.1]⟩)
      · rcases h01 with hb | hb
        · have z := (ok.1 hb ns (Int.le_refl _) hl).2.1
          rw [(hb0 hb).2.1, k56.1] at z; exact z
        · rw [(ok.2 hb).2.2]; exact tb hb
      · have z := ok.1 hb ns (Int.le_refl _) hl
        have z1 : cms ns = Me 112 ns := by rw [z.1]; exact (hb0 hb).1
        refine ⟨z1, fun i i0 i1 => ?_⟩
        rw [z.2.2 i i0 i1]; exact (hb0 hb).2.2 i (by omega)
    refine y_117 hE3 (by decide) (fun c => ?_) (fun c => ?_)
    · rw [if_neg (by decide)]
      have c' : M 70 a3 = 244 := by rw [← r70]; exact c
      by_cases h14 : a3 < 1200
      · have q7 : ∀ (G : mm_ → Prop) (Qtq : qt_), q32 dq Ne G Qtq → q32 dq N G Qtq := fun G Qtq hg => hq G Qtq fun V' hV' hW' => j_242t hT3 hE3 (by decide) c h14 (hg V' hV' hW')
        refine l_104 hV hW n a3 F' (ns + 1) Me Ne (by omega) S3 h14 (by rw [r70, c']; decide) (fun hb => ?_) (fun F2 M' N' a' ns' S' ha' hn' xp' qp' r' rw' rb' fF' sy' hq' => ?_) (fun hb Mx' hx' hq' => ?_)
        · have := hS hb
          rw [eS, syb hb, Option.bind_some, if_pos c'] at this
          rw [r70, rb hb 113 (by decide), rb hb 112 (by decide), tsg hb]; exact this
        · rw [r70] at sy'
          refine hK F2 M' N' a' ns' S' (by omega) (by omega) (XPb_tr xp xp') (SGR_tr qp qp') (r'.trans r70) ⟨fun i hi => ⟨(rw'.1 i (by omega)).1.trans (rw3.1 i hi).1, (rw'.1 i (by omega)).2.trans (rw3.1 i hi).2⟩, fun i hi => (rw'.2 i (by omega)).trans (rw3.2 i hi)⟩ (fun hb r e1 => (rb' hb r e1).trans (rb hb r e1)) ⟨by omega, fun hb => (fF'.2.1 hb).trans (fF.2.1 hb), SGN_tr g1 fF'.2.2 (fun hb u hu => GLM_sg qp' (fun i hi => (rw'.1 i hi).2) (S3.2.1.2.2 hb).1 (by have := (S'.2.1.2.2 hb).1; omega) hu) qp qp' rb⟩ (fun gm cms tms ok => ?_) (fun G Qtq hg => q7 G Qtq (hq' G Qtq hg))
          rw [eS, first gm cms tms ns' M' ok (by omega) (fun hb => ⟨(rw'.1 ns (by omega)).1, (rw'.1 ns (by omega)).2, fun i hi => rw'.2 i hi⟩), Option.bind_some, if_pos c']
          exact sy' gm cms tms ⟨fun hb k k0 k1 => ok.1 hb k (by omega) k1, fun hb => by rw [rb hb 113 (by decide), rb hb 112 (by decide), tsg hb]; exact ok.2 hb⟩
        · exact hQ hb Mx' (XPb_tr xp hx') (fun G Qtq hg => q7 G Qtq (hq' G Qtq fun M9 p => hg _ (SQp_tr (SGR_Q qp) p)))
      · rcases h01 with hb | hb
        · refine b_104_0 (Tr_mono _) hV hW _ ?_
          refine y_105 hE3 (by rw [c]; decide) (fun hb1 => by omega) (fun h16 _ => by omega) (fun _ h16 => ?_)
          have hsp := SQ_bf hE3 hb (k := 2) (by decide) QA_rf
          exact hQ hb _ (XPb_tr xp XPb_fl) (fun G Qtq hg => hq G Qtq fun V' hV' hW' => j_242r hT3 hE3 hb (by decide) c h16 (q32_s hV' hW' hsp.1 (hg _ (SQp_tr (SGR_Q qp) (SQ_P hsp)))))
        · exfalso
          have a3' := ER_a hE3
          have := hS hb
          rw [eS, syb hb, Option.bind_some, if_pos c', SGS_e a3'.1 a3'.2] at this
          have z := bind_n this
          unfold sgnS snS at z
          exact h14 (gS_n (bind_n (bind_n z)))
    · rw [if_pos rfl]
      have c' : M 70 a3 ≠ 244 := by rw [← r70]; exact c
      have toQ : ∀ {G : mm_ → Prop} {Qtq : qt_}, Tr_ wd0 pg0 (dq + 18) 244 [.inr (.inr 6), .inl 59] Ne (rv_ fun M1 => rv_ G [] M1) Qtq → q32 dq N G Qtq := fun hg => hq _ _ fun V' hV' hW' => j_242f hT3 hE3 (by decide) c (b_232_2 (Tr_mono _) hV' hW' _ _ (by rw [if_pos rfl]; exact hg))
      refine y_121 hE3 (by decide) (fun hb => by
        have := hS hb
        rw [eS, syb hb, Option.bind_some, if_neg c'] at this
        rw [r70]; exact bind_n this) (fun k2 h13 hE4 => ?_) (fun hb k2 h13 => ?_) (fun hb k2 => ?_)
      · have S4 := SYS_go S3 hE4
        have k2' : M 70 a3 = 259 := by rw [← r70]; exact k2
        have n5 : ∀ r : Nat, r ≠ 1 → nX_ Me r = Me r := fun r h => nX_ne h
        refine rv_i (hK F' (nX_ Me) (nx_ Ne) (a3 + 1) (ns + 1) S4 (by omega) (Int.le_refl _) (XPb_tr xp XPb_nX) (SGR_tr qp SGR_go) (by rw [n5 70 (by decide)]; exact r70) (by rw [n5 112 (by decide), n5 56 (by decide), n5 113 (by decide)]; exact rw3) (fun hb r e1 => by rw [n5 r e1]; exact rb hb r e1) ⟨fF.1, fF.2.1, SGN_go g1⟩ (fun gm cms tms ok => ?_) (fun G Qtq hg => toQ (j_244t hT3 hE3 (by decide) k2 h13 (rv_i hg))))
        rw [eS, first gm cms tms (ns + 1) (nX_ Me) ok (by omega) (fun hb => by rw [n5 112 (by decide), n5 56 (by decide), n5 113 (by decide)]; exact ⟨rfl, rfl, fun _ _ => rfl⟩), Option.bind_some, if_neg c', tS_e k2' h13, Option.bind_some]
      · have hsp := SQ_bf hE3 hb (k := 2) (by decide) QA_rf
        exact hQ hb _ (XPb_tr xp XPb_fl) (fun G Qtq hg => toQ (j_244r hT3 hE3 hb (by decide) k2 h13 (rv_i (hg _ (SQp_tr (SGR_Q qp) (SQ_P hsp))))))
      · have hsp := SQ_bf hE3 hb (k := 1) (by decide) QA_rf
        exact hQ hb _ (XPb_tr xp XPb_fl) (fun G Qtq hg => toQ (j_244w hT3 hE3 hb (by decide) k2 (rv_i (hg _ (SQp_tr (SGR_Q qp) (SQ_P hsp))))))
end S4g
end T277_s4
section T278_s5
/-! a line of signals, with its keyword (X 104 | Q 228, 232) -/
def qSC (dq : Nat) (N : mm_) (G : mm_ → Prop) (Qt : qt_) : Prop := Tr_ wd0 pg0 (dq + 19) 228 [.inr (.inr 6), .inl 0] N (ri_ fun v M3 => if v = 0 then False else Tr_ wd0 pg0 (dq + 19) 232 [.inr (.inr 6)] M3 (rv_ G) Qt) Qt
section S5g
variable {dq : Nat} {b F nr np ns a : Int} {Kv G : mm_ → Prop} {Qt Qtq : qt_} {M N : mm_}
theorem q232z [Inhabited gh_] (hs : sp_ N) (h : G N) : Tr_ wd0 pg0 (dq + 19) 232 [.inr (.inr 6)] N (rv_ G) Qtq := t_232 fun V hV hW => b_232_0 (Tr_mono _) hV hW _ (q32_s hV hW hs h)
theorem y_104 [Inhabited gh_] (h : SYS b F M N a ns nr np) (hk : M 70 a = 0) (hS : b = 1 → SGS (M 70) (M 113) (M 112) (TSG M) (a, ns) ≠ none)
    (hK : ∀ F' M' N' a' ns', SYS b F' M' N' a' ns' nr np → a + 3 ≤ a' → ns + 1 ≤ ns' → XPb M M' → SGR b M N M' N' → M' 70 = M 70 → ((∀ i, i < ns → M' 112 i = M 112 i ∧ M' 56 i = M 56 i) ∧ ∀ i, i < 3 * ns → M' 113 i = M 113 i) → (b = 1 → ∀ r : Nat, r ≠ 1 → M' r = M r) → (F' ≤ F ∧ (b = 1 → F' = F) ∧ SGN b F F' M N M' N' ns ns') → (∀ gm cms tms, SGO b gm cms tms ns ns' M M' → SGS (M 70) gm cms tms (a, ns) = some (a', ns')) → (∀ (G : mm_ → Prop) (Qtq : qt_), G N' → qSC dq N G Qtq) → Kv M')
    (hQ : b = 0 → ∀ Mx', XPb M Mx' → (∀ (G : mm_ → Prop) (Qtq : qt_), (∀ M', SQp Mx' N M' → G M') → qSC dq N G Qtq) → Qt 8 Mx') :
    Tr_ wd0 pg0 131 104 [.inr (.inr 1)] M (rv_ Kv) Qt := by
  have hE := h.1.1.2.1
  have hT := h.1.1.1
  have ha := ER_a hE
  refine t_104 fun V hV hW => ?_
  by_cases h12 : a < 1200
  · have toQ : ∀ (G : mm_ → Prop) (Qtq : qt_), q32 dq N G Qtq → qSC dq N G Qtq := fun G Qtq hq => j_228t hT hE (by decide) hk h12 (by
      rw [if_neg (by decide)]
      exact t_232 fun V' hV' hW' => b_232_0 (Tr_mono _) hV' hW' _ (hq V' hV' hW'))
    exact l_104 (dq := dq) hV hW 1201 a F ns M N (by omega) h h12 (by omega) hS (fun F' M' N' a' ns' g1 g2 g3 g4 g5 g6 g7 g8 g9 g10 g11 => hK F' M' N' a' ns' g1 g2 g3 g4 g5 g6 g7 g8 g9 g10 (fun G Qtq hg => toQ G Qtq (g11 G Qtq hg))) (fun hb Mx' hx hq => hQ hb Mx' hx (fun G Qtq hg => toQ G Qtq (hq G Qtq hg)))
  · rcases bl01 hE with hb | hb
    · refine b_104_0 (Tr_mono _) hV hW _ ?_
      refine y_105 hE (by omega) (fun hb1 => by omega) (fun h16 _ => by omega) (fun _ h16 => ?_)
      have hsp := SQ_bf hE hb (k := 2) (by decide) QA_rf
      exact hQ hb _ XPb_fl (fun G Qtq hg => j_228r hT hE hb (by decide) hk h16 (by rw [if_neg (by decide)]; exact q232z hsp.1 (hg _ (SQ_P hsp))))
    · exfalso
      have := hS hb
      rw [SGS_e ha.1 ha.2] at this
      have z := bind_n this
      unfold sgnS snS at z
      exact h12 (gS_n (bind_n (bind_n z)))
end S5g
end T278_s5
section T279_rt
/-! routes: within a line (X 122 | Q 245), a side (123 | 246) -/
def RL [Inhabited gh_] (b F : Int) (M N : mm_) (a : Int) : Prop := (Tks M N ∧ ER b F M N a 0 ∧ M 1 2 = 5) ∧ (sgl9 M N ∧ tpl9 M N) ∧ M 1 7 + 8 * (1201 - a) ≤ 1000000000 - (gg_ : Int)
/-- what stays (r: the route) -/
def RLF (b r : Int) (M N M1 N1 : mm_) : Prop := ((∀ k : Nat, k ∉ [1, 114, 115, 116, 117, 118, 119] → M1 k = M k) ∧ (∀ i : Int, i ∉ [3, 4, 5, 7] → M1 1 i = M 1 i) ∧ (∀ k : Nat, k ∈ [115, 116, 117, 118, 119] → ∀ i, i ≠ r → M1 k i = M k i) ∧ ∀ i, i ≠ 2 * r → i ≠ 2 * r + 1 → M1 114 i = M 114 i)
  ∧ ((∀ k : Nat, k ≠ 6 → N1 k = N k) ∧ (∀ i : Int, i ∉ [12, 13, 14] → N1 6 i = N 6 i) ∧ (b = 1 → N1 6 13 = 0 → N 6 13 = 0))
/-- steps that write no row -/
def RLN (b : Int) (M N M1 N1 : mm_) : Prop := ((∀ k : Nat, k ≠ 1 → M1 k = M k) ∧ (∀ i : Int, i ∉ [3, 4, 5, 7] → M1 1 i = M 1 i)) ∧ ((∀ k : Nat, k ≠ 6 → N1 k = N k) ∧ (∀ i : Int, i ∉ [12, 13, 14] → N1 6 i = N 6 i) ∧ (b = 1 → N1 6 13 = 0 → N 6 13 = 0))
def sdO (κ : Int → Int) (a : Int) : Prop := (κ a = 25 ∨ κ a = 100) ∧ a < 1200
def sdv (M N : mm_) (a : Int) : Int := if M 70 a = 25 then -2 else tpl N (N 151 a)
def sdq (M N : mm_) (a : Int) : Int := if M 70 a = 25 then 0 else N 151 a
section RTa
variable {d dq : Nat} {b F r t kk tk v : Int} {K : Int → mm_ → Prop} {Kv G : mm_ → Prop} {Qt Qtq : qt_} {V V' : vv_} {M N Mx' M' N' M1 N1 M2 N2 : mm_} {a a' : Int}
theorem sgl_e [Inhabited gh_] (h17 : N1 6 17 = N 6 17) (h152 : N1 152 = N 152) : sgl N1 = sgl N := by funext y; unfold sgl; rw [h17, h152]
theorem tpl_e [Inhabited gh_] (h19 : N1 6 19 = N 6 19) (h154 : N1 154 = N 154) : tpl N1 = tpl N := by funext y; unfold tpl; rw [h19, h154]
theorem RL_c [Inhabited gh_] (h : RL b F M N a) (hE : ER b F M1 N1 a' 0) (hx : ∀ k : Nat, k ∈ [5, 56, 58, 69, 70, 71, 72, 73] → M1 k = M k) (h2 : M1 1 2 = M 1 2) (h7 : M1 1 7 + 8 * (1201 - a') ≤ 1000000000 - (gg_ : Int)) (hq : ∀ k : Nat, k ∈ [149, 150, 151, 152, 154] → N1 k = N k) (h6 : N1 6 17 = N 6 17 ∧ N1 6 19 = N 6 19) : RL b F M1 N1 a' := by
  obtain ⟨⟨s1, s2, s3⟩, ⟨g1, g2⟩, c⟩ := h
  have e70 := hx 70 (by decide)
  refine ⟨⟨Tks_r s1 (fun k hk => hx k (by simp only [List.mem_cons, List.not_mem_nil, or_false] at hk ⊢; omega)) (fun k hk => hq k (by simp only [List.mem_cons, List.not_mem_nil, or_false] at hk ⊢; omega)), hE, h2.trans s3⟩, ⟨?_, ?_⟩, h7⟩
  · unfold sgl9
    rw [hx 5 (by decide), h6.1, hx 56 (by decide), hq 152 (by decide), hq 151 (by decide)]
    exact ⟨g1.1, fun k k0 k1 => ⟨nm9_r (g1.2 k k0 k1).1 e70, (g1.2 k k0 k1).2⟩⟩
  · unfold tpl9
    rw [hx 5 (by decide), h6.2, hx 58 (by decide), hq 154 (by decide), hq 151 (by decide)]
    exact ⟨g2.1, fun k k0 k1 => ⟨nm9_r (g2.2 k k0 k1).1 e70, (g2.2 k k0 k1).2⟩⟩
theorem RLN_RL [Inhabited gh_] (h : RL b F M N a) (hE : ER b F M1 N1 a' 0) (h7 : M1 1 7 + 8 * (1201 - a') ≤ 1000000000 - (gg_ : Int)) (f : RLN b M N M1 N1) : RL b F M1 N1 a' := RL_c h hE (fun k hk => f.1.1 k (fun e => by rw [e] at hk; revert hk; decide)) (f.1.2 2 (by decide)) h7 (fun k hk => f.2.1 k (fun e => by rw [e] at hk; revert hk; decide)) ⟨f.2.2.1 17 (by decide), f.2.2.1 19 (by decide)⟩
theorem RLN_go [Inhabited gh_] : RLN b M N (nX_ M) (nx_ N) := ⟨⟨fun k hk => nX_ne hk, fun i hi => nX_1 (nm_i hi (by decide))⟩, fun k hk => nx_ne hk, fun i hi => nx_6 (nm_i hi (by decide)), fun _ hz => by rw [nx_6 (by decide)] at hz; exact hz⟩
theorem RLN_rf [Inhabited gh_] : RLN b M N M N := ⟨⟨fun _ _ => rfl, fun _ _ => rfl⟩, fun _ _ => rfl, fun _ _ => rfl, fun _ h => h⟩
theorem RLN_tr [Inhabited gh_] (h : RLN b M N M1 N1) (g : RLN b M1 N1 M2 N2) : RLN b M N M2 N2 := ⟨⟨fun k hk => (g.1.1 k hk).trans (h.1.1 k hk), fun i hi => (g.1.2 i hi).trans (h.1.2 i hi)⟩, fun k hk => (g.2.1 k hk).trans (h.2.1 k hk), fun i hi => (g.2.2.1 i hi).trans (h.2.2.1 i hi), fun hb hz => h.2.2.2 hb (g.2.2.2 hb hz)⟩
theorem RLF_rf [Inhabited gh_] : RLF b r M N M N := ⟨⟨fun _ _ => rfl, fun _ _ => rfl, fun _ _ _ _ => rfl, fun _ _ _ => rfl⟩, fun _ _ => rfl, fun _ _ => rfl, fun _ h => h⟩
theorem RLF_tr [Inhabited gh_] (h : RLF b r M N M1 N1) (g : RLF b r M1 N1 M2 N2) : RLF b r M N M2 N2 := ⟨⟨fun k hk => (g.1.1 k hk).trans (h.1.1 k hk), fun i hi => (g.1.2.1 i hi).trans (h.1.2.1 i hi), fun k hk i hi => (g.1.2.2.1 k hk i hi).trans (h.1.2.2.1 k hk i hi), fun i h1 h2 => (g.1.2.2.2 i h1 h2).trans (h.1.2.2.2 i h1 h2)⟩, fun k hk => (g.2.1 k hk).trans (h.2.1 k hk), fun i hi => (g.2.2.1 i hi).trans (h.2.2.1 i hi), fun hb hz => h.2.2.2 hb (g.2.2.2 hb hz)⟩
theorem RLN_F [Inhabited gh_] (h : RLN b M N M1 N1) : RLF b r M N M1 N1 := ⟨⟨fun k hk => h.1.1 k (fun e => hk (by rw [e]; decide)), fun i hi => h.1.2 i hi, fun k hk i _ => by rw [h.1.1 k (fun e => by rw [e] at hk; revert hk; decide)], fun i _ _ => by rw [h.1.1 114 (by decide)]⟩, h.2⟩
/-- a row of the route written -/
theorem RLF_up [Inhabited gh_] {k : Nat} {i : Int} (hk : k ∈ [115, 116, 117, 118, 119] ∧ i = r ∨ k = 114 ∧ (i = 2 * r ∨ i = 2 * r + 1)) : RLF b r M N (up_ M k i v) N := by
  refine ⟨⟨fun k' hk' => up_ne (fun e => hk' ?_), fun i' _ => by rw [up_ne (fun e => by rw [← e] at hk; revert hk; simp)], fun k' hk' i' hi' => ?_, fun i' h1 h2 => ?_⟩, fun _ _ => rfl, fun _ _ => rfl, fun _ h => h⟩
  · rw [e]
    rcases hk with hk | hk
    · have := hk.1
      simp only [List.mem_cons, List.not_mem_nil, or_false] at this ⊢
      omega
    · rw [hk.1]; decide
  · rcases hk with hk | hk
    · rw [hk.2]; exact up_of2 hi'
    · rw [hk.1, up_ne (fun e => by rw [e] at hk'; revert hk'; decide)]
  · rcases hk with hk | hk
    · rw [up_ne (fun e => by rw [← e] at hk; revert hk; simp)]
    · refine up_of2 ?_
      rcases hk.2 with e | e <;> rw [e] <;> assumption
theorem RL_up [Inhabited gh_] {k : Nat} {i : Int} (hk : k ∈ [114, 115, 116, 117, 118, 119]) (h : RL b F M N a) : RL b F (up_ M k i v) N a := by
  have u : ∀ k' : Nat, k' ∉ [114, 115, 116, 117, 118, 119] → up_ M k i v k' = M k' := fun k' h' => up_ne (fun e => h' (by rw [e]; exact hk))
  refine RL_c h (ER_1 h.1.2.1 (u 70 (by decide)) (by rw [u 5 (by decide)]) (fun i _ => by rw [u 1 (by decide)]) (fun _ _ => rfl)) (fun k' hk' => u k' (by simp only [List.mem_cons, List.not_mem_nil, or_false] at hk' ⊢; omega)) (by rw [u 1 (by decide)]) (by rw [u 1 (by decide)]; exact h.2.2) (fun _ _ => rfl) ⟨rfl, rfl⟩
theorem RL_go [Inhabited gh_] (h : RL b F M N a) (hE : ER b F (nX_ M) (nx_ N) (a + 1) 0) : RL b F (nX_ M) (nx_ N) (a + 1) := RLN_RL h hE (by rw [nX_1 (by decide)]; have := h.2.2; omega) RLN_go
/-- behind the token: a note of both -/
theorem RL_n [Inhabited gh_] (h : RL b F M N a) (hE : ER b F (nX_ M) (nx_ N) (a + 1) 0) (hk : kk = 0 ∨ (3 ≤ kk ∧ kk ≤ 6)) (ht : gd_ M tk) : RL b F (Xn_ (nX_ M) b kk tk) (Qn_ (nx_ N) b kk (M 71 tk)) (a + 1) ∧ RLN b M N (Xn_ (nX_ M) b kk tk) (Qn_ (nx_ N) b kk (M 71 tk)) ∧ (b = 1 → Qn_ (nx_ N) b kk (M 71 tk) 6 13 = 0 → kk = 0) := by
  have hp := (h.1.1 tk ht).2.2.2.1
  have c := h.2.2
  have x71 : nX_ M 71 = M 71 := nX_ne (by decide)
  have x7 : nX_ M 1 7 = M 1 7 := nX_1 (by decide)
  have m := ER_m hE hk (tk := tk) (by rw [x71]; omega) (by rw [x7]; omega)
  rw [x71, x7] at m
  have f : RLN b M N (Xn_ (nX_ M) b kk tk) (Qn_ (nx_ N) b kk (M 71 tk)) := RLN_tr RLN_go ⟨⟨fun k hk => Xn_r hk, fun i hi => Xn_1 (nm_i hi (by decide)) (nm_i hi (by decide)) (nm_i hi (by decide))⟩, fun k hk => Qn_r hk, fun i hi => Qn_6 (nm_i hi (by decide)) (nm_i hi (by decide)), fun hb hz => (m.2.2 hb hz).2⟩
  exact ⟨RLN_RL h m.1 (by omega) f, f, fun hb hz => (m.2.2 hb hz).1⟩
theorem RLN_X [Inhabited gh_] (h : RLN b M N M1 N1) : XPb M M1 := fun k hk => h.1.1 k (fun e => hk (by rw [e]; decide))
theorem RLN_Q [Inhabited gh_] (h : RLN b M N M1 N1) : QPb N N1 := ⟨fun k hk => h.2.1 k (fun e => hk (by unfold QPRr; omega)), fun i hi => h.2.2.1 i (fun e => hi (by simp only [qpI, List.mem_cons, List.not_mem_nil, or_false] at e ⊢; omega))⟩
theorem RLF_X [Inhabited gh_] (h : RLF b r M N M1 N1) : XPb M M1 := fun k hk => h.1.1 k (fun e => hk (by simp only [xpL, List.mem_cons, List.not_mem_nil, or_false] at e ⊢; omega))
theorem RLF_Q [Inhabited gh_] (h : RLF b r M N M1 N1) : QPb N N1 := ⟨fun k hk => h.2.1 k (fun e => hk (by unfold QPRr; omega)), fun i hi => h.2.2.1 i (fun e => hi (by simp only [qpI, List.mem_cons, List.not_mem_nil, or_false] at e ⊢; omega))⟩
theorem q_246s [Inhabited gh_] (hs : sp_ N) (hi : in9_ N) (h : ∀ v, K v N) : Tr_ wd0 pg0 (d + 4) 246 [.inr (.inr 6)] N (rl_ K) Qt := by
  refine t_246 fun V hV hW => b_246_0 (Tr_mono _) hV hW _ (q_228s hs ?_)
  rw [if_pos rfl]
  refine q_233s hs ?_
  intro _
  rw [if_pos hs.2]
  exact ⟨hi, rl_i (h _)⟩
theorem tpl_q [Inhabited gh_] (h : tpl9 M N) : ∃ m : Nat, N 6 19 = m ∧ (m : Int) ≤ 6 ∧ (N 6 19).toNat = m := by
  obtain ⟨m, hm⟩ := Int.eq_ofNat_of_zero_le h.1.1
  have := h.1
  exact ⟨m, by omega, by omega, by omega⟩
theorem sgl_q [Inhabited gh_] (h : sgl9 M N) : ∃ m : Nat, N 6 17 = m ∧ (m : Int) ≤ 20 ∧ (N 6 17).toNat = m := by
  obtain ⟨m, hm⟩ := Int.eq_ofNat_of_zero_le h.1.1
  have := h.1
  exact ⟨m, by omega, by omega, by omega⟩
theorem q_247t [Inhabited gh_] (h9 : tpl9 M N) (h : K (tpl N v) N) : Tr_ wd0 pg0 (d + 1) 247 [.inr (.inr 6), .inr (.inl v)] N (ri_ K) Qt := by
  obtain ⟨m, h1, h2, h3⟩ := tpl_q h9
  refine q_247 h1 h2 ?_
  unfold tpl at h; rw [h3] at h; exact h
theorem q_251t [Inhabited gh_] (h9 : sgl9 M N) (h : K (sgl N v) N) : Tr_ wd0 pg0 (d + 1) 251 [.inr (.inr 6), .inr (.inl v)] N (ri_ K) Qt := by
  obtain ⟨m, h1, h2, h3⟩ := sgl_q h9
  refine q_251 h1 h2 ?_
  unfold sgl at h; rw [h3] at h; exact h
theorem y_123 [Inhabited gh_] (h : RL b F M N a) (hS : b = 1 → sdO (M 70) a)
    (hK : ∀ M1 N1, RL b F M1 N1 (a + 1) → RLN b M N M1 N1 → sdO (M 70) a → (b = 1 → N1 6 13 = 0 → sdv M N a ≠ -1) → (∀ (Kq : Int → mm_ → Prop) (Qtq : qt_), Kq (sdq M N a) N1 → Tr_ wd0 pg0 (dq + 18) 246 [.inr (.inr 6)] N (rl_ Kq) Qtq) → K (sdv M N a) M1)
    (hQ : b = 0 → ∀ Mx', XPb M Mx' → (∀ (Kq : Int → mm_ → Prop) (Qtq : qt_), (∀ v M', SQp Mx' N M' → Kq v M') → Tr_ wd0 pg0 (dq + 18) 246 [.inr (.inr 6)] N (rl_ Kq) Qtq) → Qt 8 Mx') :
    Tr_ wd0 pg0 (d + 5) 123 [.inr (.inr 1)] M (ri_ K) Qt := by
  have hE := h.1.2.1
  have hT := h.1.1
  have ha := ER_a hE
  have h01 := bl01 hE
  refine t_123 fun V hV hW => b_123_0 (Tr_mono _) hV hW _ ?_
  refine y_103 hE (fun k1 => ?_) (fun k1 => ?_)
  · rw [if_neg (by decide)]
    refine y_105 hE (by omega) (fun hb => by unfold gS; rw [if_pos (hS hb).2]; exact fun e => by cases e) (fun h12 hE1 => ?_) (fun hb h12 => ?_)
    · refine ri_i ?_
      have := hK (nX_ M) (nx_ N) (RL_go h hE1) RLN_go ⟨.inl k1, h12⟩ (fun _ _ => by unfold sdv; rw [if_pos k1]; decide) (fun Kq Qtq hq => ?_)
      · unfold sdv at this; rw [if_pos k1] at this; exact this
      · unfold sdq at hq; rw [if_pos k1] at hq
        exact t_246 fun V' hV' hW' => b_246_0 (Tr_mono _) hV' hW' _ (j_228t hT hE (by decide) k1 h12 (by rw [if_neg (by decide)]; exact rl_i hq))
    · have hsp := SQ_bf hE hb (k := 2) (by decide) QA_rf
      exact hQ hb _ XPb_fl (fun Kq Qtq hg => t_246 fun V' hV' hW' => b_246_0 (Tr_mono _) hV' hW' _ (j_228r hT hE hb (by decide) k1 h12 (by rw [if_neg (by decide)]; exact rl_i (hg _ _ (SQ_P hsp)))))
  · rw [if_pos rfl]
    have toQ : ∀ {Kq : Int → mm_ → Prop} {Qtq : qt_}, (Tr_ wd0 pg0 (dq + 17) 233 [.inr (.inr 6)] N (ri_ fun v2 M2 =>
    (bl_ (M2 6 16) → (if M2 6 16 = 0 then
     (0 ≤ v2 ∧ v2 < 1202) ∧
      rl_ Kq [.inr (.inl (M2 151 v2))] M2
    else
     (0 ≤ v2 ∧ v2 < 1202) ∧
      Tr_ wd0 pg0 (dq + 17) 247 [.inr (.inr 6), .inr (.inl (M2 151 v2))] M2 (ri_ fun v3 M3 =>
      (if v3 < 0 then
       (0 ≤ v2 ∧ v2 < 1202) ∧
        Tr_ wd0 pg0 (dq + 17) 236 [.inr (.inr 6), .inl 4, .inl (M3 150 v2)] M3 (rv_ fun M4 =>
        (0 ≤ v2 ∧ v2 < 1202) ∧
         rl_ Kq [.inr (.inl (M4 151 v2))] M4) Qtq
      else
       (0 ≤ v2 ∧ v2 < 1202) ∧
        rl_ Kq [.inr (.inl (M3 151 v2))] M3)) Qtq))) Qtq) → Tr_ wd0 pg0 (dq + 18) 246 [.inr (.inr 6)] N (rl_ Kq) Qtq := fun hq => t_246 fun V' hV' hW' => b_246_0 (Tr_mono _) hV' hW' _ (j_228f hT hE (by decide) k1 (by rw [if_pos rfl]; exact hq))
    refine y_107 hE (fun hb => by
      have := hS hb
      unfold sdO at this
      unfold tS gS
      rw [if_pos (by omega), if_pos this.2]; exact fun e => by cases e) (fun k2 h12 hE1 => ?_) (fun hb k2 h12 => ?_) (fun hb k2 => ?_)
    rotate_left
    · have hsp := SQ_bf hE hb (k := 2) (by decide) QA_rf
      exact hQ hb _ XPb_fl (fun Kq Qtq hg => toQ (j_233r hT hE hb k2 h12 (fun _ => by rw [if_pos hsp.1.2]; exact ⟨by omega, rl_i (hg _ _ (SQ_P hsp))⟩)))
    · have hsp := SQ_bf hE hb (k := 1) (by decide) QA_rf
      exact hQ hb _ XPb_fl (fun Kq Qtq hg => toQ (j_233w hT hE hb k2 (fun _ => by rw [if_pos hsp.1.2]; exact ⟨by omega, rl_i (hg _ _ (SQ_P hsp))⟩)))
    have R1 := RL_go h hE1
    have nmt : nm9_ (nX_ M) a := ⟨gd_c (nX_ne (by decide)) hE.1, by rw [nX_ne (by decide)]; exact k2⟩
    have e16 : nx_ N 6 16 = b := hE1.2.2.2.2.2.2.2.1
    have e8 : nX_ M 1 8 = b := hE1.2.2.2.2.2.2.1
    have q151 : nx_ N 151 = N 151 := nx_ne (by decide)
    have tpe : tpl (nx_ N) = tpl N := tpl_e (nx_6 (by decide)) (nx_ne (by decide))
    have p15 : nx_ N 150 a = M 71 a := by rw [nx_ne (by decide)]; exact ((hT a hE.1).2.1).symm
    have hso : sdO (M 70) a := ⟨.inr k2, h12⟩
    refine x_115s R1.1.1 R1.1.2.2 R1.2.1.2 nmt ?_
    rw [tpe, q151]
    intro _
    rw [e8]
    rcases h01 with hb | hb
    · rw [if_pos hb]
      refine ri_i ?_
      have := hK (nX_ M) (nx_ N) R1 RLN_go hso (fun hb1 => by omega) (fun Kq Qtq hq => ?_)
      · unfold sdv at this; rw [if_neg k1] at this; exact this
      · unfold sdq at hq; rw [if_neg k1] at hq
        refine toQ (j_233t hT hE k2 h12 (fun _ => ?_))
        rw [e16, if_pos hb, q151]
        exact ⟨by omega, rl_i hq⟩
    · rw [if_neg (by omega)]
      by_cases c : tpl N (N 151 a) = -1
      · rw [if_pos c]
        obtain ⟨R2, f2, z2⟩ := RL_n (kk := 4) (tk := a) h hE1 (.inr (by decide)) hE.1
        have ex : Xn_ (nX_ M) b 4 a = nt1_ (nX_ M) 4 a := by unfold Xn_; rw [if_neg (by omega)]
        have eq : Qn_ (nx_ N) b 4 (M 71 a) = nt_ (nx_ N) 4 (M 71 a) := by unfold Qn_; rw [if_neg (by omega)]
        rw [ex, eq] at R2 f2
        rw [eq] at z2
        have b7 := R1.2.2
        refine x_116 (by omega) (by omega) hE1.2.2.2.2.2.2.2.2.2.2.2.1 (by omega) (ri_i ?_)
        have := hK _ _ R2 f2 hso (fun hb1 hz => absurd (z2 hb1 hz) (by decide)) (fun Kq Qtq hq => ?_)
        · unfold sdv at this; rw [if_neg k1] at this; exact this
        · unfold sdq at hq; rw [if_neg k1] at hq
          refine toQ (j_233t hT hE k2 h12 (fun _ => ?_))
          rw [e16, if_neg (by omega)]
          refine ⟨by omega, q_247t (M := nX_ M) R1.2.1.2 ?_⟩
          rw [tpe, q151, if_pos (by omega), p15]
          refine ⟨by omega, q_236 ⟨by omega, ?_⟩⟩
          rw [ntQ_r (by decide), q151]
          exact rl_i hq
      · rw [if_neg c]
        refine ri_i ?_
        have := hK (nX_ M) (nx_ N) R1 RLN_go hso (fun _ _ => by unfold sdv; rw [if_neg k1]; exact c) (fun Kq Qtq hq => ?_)
        · unfold sdv at this; rw [if_neg k1] at this; exact this
        · unfold sdq at hq; rw [if_neg k1] at hq
          refine toQ (j_233t hT hE k2 h12 (fun _ => ?_))
          rw [e16, if_neg (by omega)]
          refine ⟨by omega, q_247t (M := nX_ M) R1.2.1.2 ?_⟩
          have t0 : ¬ tpl N (N 151 a) < 0 := by
            have : tpl N (N 151 a) = -1 ∨ 0 ≤ tpl N (N 151 a) := by
              unfold tpl
              rcases fi_r (fun i => N 154 i) (N 151 a) (N 6 19).toNat 0 with e | e
              · exact .inl e
              · exact .inr e.1
            omega
          rw [tpe, q151, if_neg t0]
          exact ⟨by omega, rl_i hq⟩
end RTa
end T279_rt
section T280_rt
/-! routes: DELAY -/
def dle (κ : Int → Int) (a : Int) : Int := if κ a = 24 then (if κ (a + 2) = 115 then a + 4 else a + 2) else a
def DLO (κ ν : Int → Int) (a : Int) : Prop := κ a = 24 → (κ (a + 1) = 101 ∧ ν (a + 1) ≤ 200 ∧ 0 ≤ ν (a + 1) ∧ a + 1 < 1200) ∧ (κ (a + 2) = 115 → κ (a + 3) = 101 ∧ ν (a + 3) ≤ 200 ∧ 0 ≤ ν (a + 3) ∧ a + 3 < 1200)
def dlt (κ ν : Int → Int) (a : Int) : Int := if κ a = 24 then ν (a + 1) else 0
def dmt (κ ν : Int → Int) (a : Int) : Int := if κ a = 24 then (if κ (a + 2) = 115 then ν (a + 3) else ν (a + 1)) else 0
def dlb (κ : Int → Int) (a : Int) : Int := if κ a = 24 then 1 else 0
def drw (κ : Int → Int) (a : Int) : Int := if κ a = 24 then (if κ (a + 2) = 115 then 1 else 0) else 0
def dl7 (κ ν : Int → Int) (a : Int) : Int := if κ a = 24 then ν (a + 1) else -1
def dl8 (κ ν : Int → Int) (a : Int) : Int := if κ a = 24 then (if κ (a + 2) = 115 then ν (a + 3) else ν (a + 1)) else -1
def z23 (V : vv_) (Qt : qt_) (x1 x2 r : Int) (M : mm_) : Prop := Tr_ wd0 pg0 130 108 [.inr (.inr 1), .inl 23] M (rv_ fun M5 =>
       M5 1 2 = 5 ∧
        (0 ≤ r ∧ r < 10) ∧
        V 351 [rr 1, ii x1, ii x2, ii r, ii 1, none, none] [] (up_ M5 119 r 0)) Qt
def z24 (V : vv_) (Qt : qt_) (x1 x2 r : Int) (M : mm_) : Prop := Tr_ wd0 pg0 130 103 [.inr (.inr 1), .inl 24] M (ri_ fun v3 M4 =>
     ((0 ≤ r ∧ r < 10) ∧ bl_ v3) ∧
      M4 1 2 = 5 ∧
      (0 ≤ r ∧ r < 10) ∧
      M4 1 2 = 5 ∧
      (0 ≤ r ∧ r < 10) ∧
      M4 1 2 = 5 ∧
      ((0 ≤ r ∧ r < 10) ∧ bl_ 0) ∧
      M4 1 2 = 5 ∧
      (0 ≤ r ∧ r < 10) ∧ (bl_ ((up_ M4 117 (r) v3) 117 (r)) →
      (if (up_ M4 117 (r) v3) 117 (r) = 0 then
      z23 V Qt x1 x2 r (up_ (up_ (up_ (up_ M4 117 (r) v3) 115 (r) 0) 116 (r) 0) 118 (r) 0)
     else
      Tr_ wd0 pg0 130 105 [.inr (.inr 1)] (up_ (up_ (up_ (up_ M4 117 (r) v3) 115 (r) 0) 116 (r) 0) 118 (r) 0) (rv_ fun M6 =>
       M6 1 2 = 5 ∧
        Tr_ wd0 pg0 130 124 [.inr (.inr 1), .inl 200] M6 (ri_ fun v4 M7 =>
        (0 ≤ r ∧ r < 10) ∧
         M7 1 2 = 5 ∧
         M7 1 2 = 5 ∧
         (0 ≤ r ∧ r < 10) ∧
         (0 ≤ r ∧ r < 10) ∧
         Tr_ wd0 pg0 130 103 [.inr (.inr 1), .inl 115] (up_ (up_ M7 115 (r) v4) 116 (r) ((up_ M7 115 (r) v4) 115 (r))) (ri_ fun v5 M8 =>
         (if v5 = 0 then
          z23 V Qt x1 x2 r M8
         else
          Tr_ wd0 pg0 130 105 [.inr (.inr 1)] M8 (rv_ fun M10 =>
           M10 1 2 = 5 ∧
            ((0 ≤ r ∧ r < 10) ∧ bl_ 1) ∧
            M10 1 2 = 5 ∧
            Tr_ wd0 pg0 130 124 [.inr (.inr 1), .inl 200] (up_ M10 118 (r) 1) (ri_ fun v6 M11 =>
            (0 ≤ r ∧ r < 10) ∧
             (bl_ (M11 1 8) → (if M11 1 8 = 0 then
             z23 V Qt x1 x2 r (up_ M11 116 (r) v6)
            else
             M11 1 2 = 5 ∧
              (0 ≤ r ∧ r < 10) ∧
              M11 1 2 = 5 ∧
              (0 ≤ r ∧ r < 10) ∧
              (if (up_ M11 116 (r) v6) 116 (r) < M11 115 (r) then
              Tr_ wd0 pg0 130 116 [.inr (.inr 1), .inl 6, .inl (M10 1 3)] (up_ M11 116 (r) v6) (rv_ fun M14 =>
               z23 V Qt x1 x2 r M14) Qt
             else
              z23 V Qt x1 x2 r (up_ M11 116 (r) v6))))) Qt) Qt)) Qt) Qt) Qt))) Qt
def q40 (dq : Nat) (x1 x2 v1 v2 x7 x8 x9 : Int) (N : mm_) (G : mm_ → Prop) (Qt : qt_) : Prop := ∀ V : vv_, Cl_ wd0 (Tr_ wd0 pg0 (dq + 18)) V (rv_ G) Qt m_245 → Wk_ V → V 140 [rr 6, ii x1, ii x2, jj v1, none, jj v2, none, ii x7, ii x8, ii x9, none, none, none] [] N
def q28V (dq : Nat) (x1 x2 v1 v2 : Int) (N : mm_) (V : vv_) (Qt : qt_) : Prop := Tr_ wd0 pg0 (dq + 18) 228 [.inr (.inr 6), .inl 24] N (ri_ fun v3 M5 =>
      (if v3 = 0 then
       V 140 [rr 6, ii x1, ii x2, jj v1, none, jj v2, none, ii ((-1)), ii ((-1)), ii 0, none, none, none] [] M5
      else
       Tr_ wd0 pg0 (dq + 18) 248 [.inr (.inr 6), .inl 200] M5 (ri_ fun v4 M6 =>
        Tr_ wd0 pg0 (dq + 18) 242 [.inr (.inr 6), .inl 261] M6 (ri_ fun v5 M7 =>
         (if v5 = 0 then
          V 140 [rr 6, ii x1, ii x2, jj v1, none, jj v2, none, ii v4, ii v4, ii 0, none, none, none] [] M7
         else
          (0 ≤ M7 6 12 ∧ M7 6 12 < 1202) ∧
           Tr_ wd0 pg0 (dq + 18) 248 [.inr (.inr 6), .inl 200] M7 (ri_ fun v6 M8 =>
           (if v4 ≤ v6 then
            V 140 [rr 6, ii x1, ii x2, jj v1, none, jj v2, none, ii v4, ii v6, ii 1, none, none, none] [] M8
           else
            Tr_ wd0 pg0 (dq + 18) 236 [.inr (.inr 6), .inl 6, .inl (M7 150 (M7 6 12))] M8 (rv_ fun M9 =>
             V 140 [rr 6, ii x1, ii x2, jj v1, none, jj v2, none, ii v4, ii v6, ii 1, none, none, none] [] M9) Qt)) Qt)) Qt) Qt)) Qt
def q28 (dq : Nat) (x1 x2 v1 v2 : Int) (N : mm_) (G : mm_ → Prop) (Qt : qt_) : Prop := ∀ V : vv_, Cl_ wd0 (Tr_ wd0 pg0 (dq + 18)) V (rv_ G) Qt m_245 → Wk_ V → q28V dq x1 x2 v1 v2 N V Qt
section RTb
variable {d dq : Nat} {b F r t kk tk v x1 x2 x3 x5 x7 x8 x9 x10 x11 v1 v2 y1 y2 : Int} {K : Int → mm_ → Prop} {Kv G : mm_ → Prop} {Qt Qtq : qt_} {V V' : vv_} {M N Mx' M' N' M1 N1 M2 N2 : mm_} {a a' : Int}
theorem q217_s [Inhabited gh_] (hV : Cl_ wd0 (Tr_ wd0 pg0 (dq + 18)) V' (rv_ G) Qtq m_245) (hW : Wk_ V') (hs : sp_ N) (h : G N) : V' 217 [rr 6, ii x1, ii x2, jj x3, none, jj x5, none, ii x7, ii x8, ii x9, ii x10, ii x11, none] [] N := by
  refine b_245_217 (Tr_mono _) hV hW _ _ _ _ _ _ _ _ _ _ (q_244s hs ?_)
  intro _
  rw [if_pos hs.2]
  refine q_227s hs ?_
  rw [if_neg (by decide)]; exact rv_i h
theorem q155_s [Inhabited gh_] (hV : Cl_ wd0 (Tr_ wd0 pg0 (dq + 18)) V' (rv_ G) Qtq m_245) (hW : Wk_ V') (hs : sp_ N) (h : G N) : V' 155 [rr 6, ii x1, ii x2, jj x3, none, jj x5, none, ii x7, ii x8, ii x9, ii x10, ii x11, none] [] N := by
  refine b_245_155 (Tr_mono _) hV hW _ _ _ _ _ _ _ _ _ _ ?_
  by_cases c : x11 = 0
  · rw [if_pos c]; exact q217_s hV hW hs h
  · rw [if_neg c]
    refine q_227s hs ?_
    rw [if_neg (by decide)]; exact q217_s hV hW hs h
theorem q140_s [Inhabited gh_] (hV : Cl_ wd0 (Tr_ wd0 pg0 (dq + 18)) V' (rv_ G) Qtq m_245) (hW : Wk_ V') (hs : sp_ N) (h : G N) : V' 140 [rr 6, ii x1, ii x2, jj x3, none, jj x5, none, ii x7, ii x8, ii x9, none, none, none] [] N := by
  refine b_245_140 (Tr_mono _) hV hW _ _ _ _ _ _ _ _ (q_250s hs (q155_s hV hW hs h))
theorem q28_s [Inhabited gh_] (hV : Cl_ wd0 (Tr_ wd0 pg0 (dq + 18)) V' (rv_ G) Qtq m_245) (hW : Wk_ V') (hs : sp_ N) (h : G N) : q28V dq x1 x2 v1 v2 N V' Qtq := q_228s hs (by rw [if_pos rfl]; exact q140_s hV hW hs h)
theorem q42r_s [Inhabited gh_] {v4 v5 : Int} (hV : Cl_ wd0 (Tr_ wd0 pg0 (dq + 18)) V' (rv_ G) Qtq m_245) (hW : Wk_ V') (hs : sp_ N) (hi : in9_ N) (h : G N) : (if v5 = 0 then
          V' 140 [rr 6, ii x1, ii x2, jj v1, none, jj v2, none, ii v4, ii v4, ii 0, none, none, none] [] N
         else
          (0 ≤ N 6 12 ∧ N 6 12 < 1202) ∧
           Tr_ wd0 pg0 (dq + 18) 248 [.inr (.inr 6), .inl 200] N (ri_ fun v6 M8 =>
           (if v4 ≤ v6 then
            V' 140 [rr 6, ii x1, ii x2, jj v1, none, jj v2, none, ii v4, ii v6, ii 1, none, none, none] [] M8
           else
            Tr_ wd0 pg0 (dq + 18) 236 [.inr (.inr 6), .inl 6, .inl (N 150 (N 6 12))] M8 (rv_ fun M9 =>
             V' 140 [rr 6, ii x1, ii x2, jj v1, none, jj v2, none, ii v4, ii v6, ii 1, none, none, none] [] M9) Qtq)) Qtq) := by
  by_cases c : v5 = 0
  · rw [if_pos c]; exact q140_s hV hW hs h
  · rw [if_neg c]
    refine ⟨hi, q_248s hs hi ?_⟩
    by_cases c2 : v4 ≤ 0
    · rw [if_pos c2]; exact q140_s hV hW hs h
    · rw [if_neg c2]
      refine q_236 ?_
      rw [nt_sp hs]; exact q140_s hV hW hs h
theorem q248z [Inhabited gh_] {v4 p : Int} (hV : Cl_ wd0 (Tr_ wd0 pg0 (dq + 18)) V' (rv_ G) Qtq m_245) (hW : Wk_ V') (hs : sp_ N) (h : G N) : (if v4 ≤ v then
            V' 140 [rr 6, ii x1, ii x2, jj v1, none, jj v2, none, ii v4, ii v, ii 1, none, none, none] [] N
           else
            Tr_ wd0 pg0 (dq + 18) 236 [.inr (.inr 6), .inl 6, .inl p] N (rv_ fun M9 =>
             V' 140 [rr 6, ii x1, ii x2, jj v1, none, jj v2, none, ii v4, ii v, ii 1, none, none, none] [] M9) Qtq) := by
  by_cases c2 : v4 ≤ v
  · rw [if_pos c2]; exact q140_s hV hW hs h
  · rw [if_neg c2]
    refine q_236 ?_
    rw [nt_sp hs]; exact q140_s hV hW hs h
end RTb
end T280_rt
section T281_rt
/-! routes: DELAY, walked -/
section RTc
variable {d dq : Nat} {b F r t kk tk v x1 x2 x3 x5 x7 x8 x9 x10 x11 v1 v2 y1 y2 : Int} {K : Int → mm_ → Prop} {Kv G : mm_ → Prop} {Qt Qtq : qt_} {V V' : vv_} {M N Mx' M' N' M1 N1 M2 N2 : mm_} {a a' : Int}
theorem RLF_70 [Inhabited gh_] (h : RLF b r M N M1 N1) : M1 70 = M 70 ∧ M1 73 = M 73 ∧ M1 71 = M 71 := ⟨h.1.1 70 (by decide), h.1.1 73 (by decide), h.1.1 71 (by decide)⟩
theorem cnS_o [Inhabited gh_] {κ ν : Int → Int} (h1 : κ a = 101) (h2 : ν a ≤ 200) (h3 : a < 1200) : cnS κ ν 200 a ≠ none := by
  unfold cnS gS
  rw [if_pos ⟨h1, h2⟩, if_pos h3]; exact fun e => by cases e
theorem gS_o [Inhabited gh_] (h3 : a < 1200) : gS a ≠ none := by unfold gS; rw [if_pos h3]; exact fun e => by cases e
theorem tS_o [Inhabited gh_] {κ : Int → Int} {k : Int} (h : κ a = k) (h3 : a < 1200) : tS κ k a ≠ none := by unfold tS; rw [if_pos h]; exact gS_o h3
/-- the last part: the second count, its note -/
theorem y_dl2 [Inhabited gh_] (h : RL b F M N a) (hr : 0 ≤ r ∧ r < 10) (hS : b = 1 → M 70 a = 101 ∧ M 73 a ≤ 200 ∧ a < 1200) (h115 : M 115 r = v1)
    (hK : ∀ M1 N1, RL b F M1 N1 (a + 1) → RLF b r M N M1 N1 → (M1 115 = M 115 ∧ M1 116 r = M 73 a ∧ M1 117 = M 117 ∧ M1 118 = M 118 ∧ M1 114 = M 114) → (M 70 a = 101 ∧ M 73 a ≤ 200 ∧ 0 ≤ M 73 a ∧ a < 1200) → (b = 1 → N1 6 13 = 0 → v1 ≤ M 73 a) → (∀ (V' : vv_) (Qtq : qt_) (T : Int → mm_ → Prop), T (M 73 a) N1 → (∀ v, T v (nx_ N) → T v (nx_ N)) → Tr_ wd0 pg0 (dq + 18) 248 [.inr (.inr 6), .inl 200] N (ri_ fun v6 M8 => (if v1 ≤ v6 then T v6 M8 else Tr_ wd0 pg0 (dq + 18) 236 [.inr (.inr 6), .inl 6, .inl (N 150 (N 6 12))] M8 (rv_ fun M9 => T v6 M9) Qtq)) Qtq) → z23 V Qt x1 x2 r M1)
    (hQ : b = 0 → ∀ Mx', XPb M Mx' → (∀ (Kq : Int → mm_ → Prop) (Qtq : qt_), (∀ v M', SQp Mx' N M' → Kq v M') → Tr_ wd0 pg0 (dq + 18) 248 [.inr (.inr 6), .inl 200] N (ri_ Kq) Qtq) → Qt 8 Mx') :
    Tr_ wd0 pg0 130 124 [.inr (.inr 1), .inl 200] M (ri_ fun v6 M11 =>
            (0 ≤ r ∧ r < 10) ∧
             (bl_ (M11 1 8) → (if M11 1 8 = 0 then
             z23 V Qt x1 x2 r (up_ M11 116 (r) v6)
            else
             M11 1 2 = 5 ∧
              (0 ≤ r ∧ r < 10) ∧
              M11 1 2 = 5 ∧
              (0 ≤ r ∧ r < 10) ∧
              (if (up_ M11 116 (r) v6) 116 (r) < M11 115 (r) then
              Tr_ wd0 pg0 130 116 [.inr (.inr 1), .inl 6, .inl a] (up_ M11 116 (r) v6) (rv_ fun M14 =>
               z23 V Qt x1 x2 r M14) Qt
             else
              z23 V Qt x1 x2 r (up_ M11 116 (r) v6))))) Qt := by
  have hE := h.1.2.1
  have hT := h.1.1
  have ha := ER_a hE
  have h01 := bl01 hE
  refine y_124 (dq := dq + 14) hT hE (fun hb => cnS_o (hS hb).1 (hS hb).2.1 (hS hb).2.2) (fun k1 m1 z1 h12 hE1 _ hq1 => ?_) (fun hb Mx' hx' hq' => ?_)
  rotate_left
  · exact hQ hb Mx' (XF_P hx') (fun Kq Qtq hg => hq' _ _ fun v M9 p => hg _ _ (SQ_P p))
  have R1 := RL_go h hE1
  have cm : up_ (nX_ M) 116 r (M 73 a) = nX_ (up_ M 116 r (M 73 a)) := by
    unfold nX_; rw [up_ne (by decide)]; exact up_cc (.inl (by decide))
  have hE1' : ER b F (nX_ (up_ M 116 r (M 73 a))) (nx_ N) (a + 1) 0 := by
    rw [← cm]
    exact ER_1 hE1 (up_ne (by decide)) (by rw [up_ne (by decide)]) (fun i _ => by rw [up_ne (by decide)]) (fun _ _ => rfl)
  have U := RL_up (k := 116) (i := r) (v := M 73 a) (by decide) h
  have FU : RLF b r M N (up_ M 116 r (M 73 a)) N := RLF_up (.inl ⟨by decide, rfl⟩)
  have u71 : up_ M 116 r (M 73 a) 71 = M 71 := up_ne (by decide)
  have e8 : nX_ M 1 8 = b := hE1.2.2.2.2.2.2.1
  have e12 : nX_ M 1 2 = 5 := R1.1.2.2
  have e115 : nX_ M 115 r = v1 := by rw [nX_ne (by decide)]; exact h115
  have p15 : N 150 (N 6 12) = M 71 a := by rw [hE.2.2.1]; exact ((hT a hE.1).2.1).symm
  have b7 := h.2.2
  have fin : ∀ kk : Int, (kk = if M 73 a < v1 then 6 else 0) → z23 V Qt x1 x2 r (Xn_ (nX_ (up_ M 116 r (M 73 a))) b kk a) := fun kk hkk => by
    have hk6 : kk = 0 ∨ (3 ≤ kk ∧ kk ≤ 6) := by
      by_cases c : M 73 a < v1
      · rw [if_pos c] at hkk; omega
      · rw [if_neg c] at hkk; omega
    obtain ⟨R5, f5, k5⟩ := RL_n (kk := kk) (tk := a) U hE1' hk6 (gd_c (up_ne (by decide)) hE.1)
    rw [u71] at R5 f5 k5
    have F5 := RLF_tr FU (RLN_F (r := r) f5)
    have x : ∀ k : Nat, k ≠ 1 → k ≠ 116 → Xn_ (nX_ (up_ M 116 r (M 73 a))) b kk a k = M k := fun k h1 h2 => by rw [Xn_r h1, nX_ne h1, up_ne h2]
    refine hK _ _ R5 F5 ⟨x 115 (by decide) (by decide), by rw [Xn_r (by decide), nX_ne (by decide), up_at], x 117 (by decide) (by decide), x 118 (by decide) (by decide), x 114 (by decide) (by decide)⟩ ⟨k1, m1, z1, h12⟩ (fun hb hz => by
      have k0 := k5 hb hz
      by_cases c : M 73 a < v1
      · rw [if_pos c] at hkk; omega
      · omega) (fun V' Qtq T hq _ => hq1 _ _ ?_)
    rw [p15]
    by_cases cc : v1 ≤ M 73 a
    · rw [if_pos cc]
      have k0 : kk = 0 := by rw [if_neg (by omega)] at hkk; exact hkk
      have : Qn_ (nx_ N) b kk (M 71 a) = nx_ N := by unfold Qn_; rw [if_pos (.inr k0)]
      rw [this] at hq; exact hq
    · rw [if_neg cc]
      have k6 : kk = 6 := by rw [if_pos (by omega)] at hkk; exact hkk
      refine q_236 ?_
      have : Qn_ (nx_ N) b kk (M 71 a) = nt_ (nx_ N) 6 (M 71 a) := by
        unfold Qn_
        rw [k6]
        by_cases cb : b = 0
        · rw [if_pos (.inl cb)]
          unfold nt_
          rw [if_pos]
          rw [hE1.2.2.2.2.2.2.2.1]; exact cb
        · rw [if_neg (by omega)]
      rw [this] at hq; exact hq
  refine ⟨hr, fun _ => ?_⟩
  rw [e8, cm]
  rw [show (nX_ (up_ M 116 r (M 73 a))) 116 r = M 73 a by rw [nX_ne (by decide), up_at], e115]
  rcases h01 with hb | hb
  · rw [if_pos hb]
    have := fin _ rfl
    unfold Xn_ at this
    rw [if_pos (.inl hb)] at this; exact this
  · rw [if_neg (by omega)]
    refine ⟨e12, hr, e12, hr, ?_⟩
    by_cases c : M 73 a < v1
    · rw [if_pos c]
      have := fin 6 (by rw [if_pos c])
      unfold Xn_ at this
      rw [if_neg (by omega)] at this
      have f7 : nX_ (up_ M 116 r (M 73 a)) 1 7 = M 1 7 := by rw [nX_1 (by decide), up_ne (by decide)]
      exact x_116 (by omega) (by omega) (by rw [f7]; exact hE.2.2.2.2.2.2.2.2.2.2.2.1) (by rw [f7]; omega) this
    · rw [if_neg c]
      have := fin 0 (by rw [if_neg c])
      unfold Xn_ at this
      rw [if_pos (.inr rfl)] at this; exact this
end RTc
end T281_rt
section T282_rt
/-! routes: DELAY whole (X from its 103 24 | Q from its 228 24) -/
def DRW (M M1 : mm_) (r a : Int) : Prop := (M1 115 r = dlt (M 70) (M 73) a ∧ M1 116 r = dmt (M 70) (M 73) a ∧ M1 117 r = dlb (M 70) a ∧ M1 118 r = drw (M 70) a) ∧ M1 114 = M 114
section RTd
variable {d dq : Nat} {b F r t kk tk v x1 x2 x3 x5 x7 x8 x9 x10 x11 v1 v2 y1 y2 : Int} {K : Int → mm_ → Prop} {Kv G : mm_ → Prop} {Qt Qtq : qt_} {V V' : vv_} {M N Mx' M' N' M1 N1 M2 N2 : mm_} {a a' : Int}
theorem y_dly [Inhabited gh_] (h : RL b F M N a) (hr : 0 ≤ r ∧ r < 10) (hS : b = 1 → DLO (M 70) (M 73) a ∧ a < 1200)
    (hK : ∀ M1 N1, RL b F M1 N1 (dle (M 70) a) → RLF b r M N M1 N1 → DRW M M1 r a → DLO (M 70) (M 73) a → (b = 1 → N1 6 13 = 0 → dlt (M 70) (M 73) a ≤ dmt (M 70) (M 73) a) → (∀ (G : mm_ → Prop) (Qtq : qt_), q40 dq x1 x2 v1 v2 (dl7 (M 70) (M 73) a) (dl8 (M 70) (M 73) a) (drw (M 70) a) N1 G Qtq → q28 dq x1 x2 v1 v2 N G Qtq) → z23 V Qt y1 y2 r M1)
    (hQ : b = 0 → ∀ Mx', XPb M Mx' → (∀ (G : mm_ → Prop) (Qtq : qt_), (∀ M', SQp Mx' N M' → G M') → q28 dq x1 x2 v1 v2 N G Qtq) → Qt 8 Mx') :
    z24 V Qt y1 y2 r M := by
  have hE := h.1.2.1
  have hT := h.1.1
  have ha := ER_a hE
  have h01 := bl01 hE
  have m12 := h.1.2.2
  have A : ∀ w : Int, RL b F (up_ (up_ (up_ (up_ M 117 r w) 115 r 0) 116 r 0) 118 r 0) N a ∧ RLF b r M N (up_ (up_ (up_ (up_ M 117 r w) 115 r 0) 116 r 0) 118 r 0) N := fun w => ⟨RL_up (by decide) (RL_up (by decide) (RL_up (by decide) (RL_up (by decide) h))), RLF_tr (RLF_tr (RLF_tr (RLF_up (.inl ⟨by decide, rfl⟩)) (RLF_up (.inl ⟨by decide, rfl⟩))) (RLF_up (.inl ⟨by decide, rfl⟩))) (RLF_up (.inl ⟨by decide, rfl⟩))⟩
  have A7 : ∀ w : Int, (up_ (up_ (up_ (up_ M 117 r w) 115 r 0) 116 r 0) 118 r 0) 117 r = w ∧ (up_ (up_ (up_ (up_ M 117 r w) 115 r 0) 116 r 0) 118 r 0) 115 r = 0 ∧ (up_ (up_ (up_ (up_ M 117 r w) 115 r 0) 116 r 0) 118 r 0) 116 r = 0 ∧ (up_ (up_ (up_ (up_ M 117 r w) 115 r 0) 116 r 0) 118 r 0) 118 r = 0 ∧ (up_ (up_ (up_ (up_ M 117 r w) 115 r 0) 116 r 0) 118 r 0) 114 = M 114 := fun w => by
    refine ⟨?_, ?_, ?_, up_at, ?_⟩
    · rw [up_ne (by decide), up_ne (by decide), up_ne (by decide), up_at]
    · rw [up_ne (by decide), up_ne (by decide), up_at]
    · rw [up_ne (by decide), up_at]
    · rw [up_ne (by decide), up_ne (by decide), up_ne (by decide), up_ne (by decide)]
  unfold z24
  refine y_103 hE (fun k1 => ?_) (fun k1 => ?_)
  · obtain ⟨R0, F0⟩ := A 1
    obtain ⟨c7, c5, c6, c8, c4⟩ := A7 1
    refine ⟨⟨hr, .inr rfl⟩, m12, hr, m12, hr, m12, ⟨hr, .inl rfl⟩, m12, hr, fun _ => ?_⟩
    rw [up_at, if_neg (by decide)]
    generalize up_ (up_ (up_ (up_ M 117 r 1) 115 r 0) 116 r 0) 118 r 0 = M0 at *
    obtain ⟨f70, f73, f71⟩ := RLF_70 F0
    have e7 : dl7 (M 70) (M 73) a = M 73 (a + 1) := by unfold dl7; rw [if_pos k1]
    have et : dlt (M 70) (M 73) a = M 73 (a + 1) := by unfold dlt; rw [if_pos k1]
    have eb : dlb (M 70) a = 1 := by unfold dlb; rw [if_pos k1]
    have hS1 : b = 1 → (M 70 (a + 1) = 101 ∧ M 73 (a + 1) ≤ 200 ∧ 0 ≤ M 73 (a + 1) ∧ a + 1 < 1200) ∧ (M 70 (a + 2) = 115 → M 70 (a + 3) = 101 ∧ M 73 (a + 3) ≤ 200 ∧ 0 ≤ M 73 (a + 3) ∧ a + 3 < 1200) := fun hb => (hS hb).1 k1
    have hT0 := R0.1.1
    have hE0 := R0.1.2.1
    have k10 : M0 70 a = 24 := by rw [f70]; exact k1
    refine y_105 hE0 (by omega) (fun hb => gS_o (by have := hS hb; omega)) (fun h12 hE1 => ?_) (fun hb h12 => ?_)
    rotate_left
    · have hsp := SQ_bf hE hb (k := 2) (by decide) QA_rf
      refine hQ hb _ (XPb_tr (RLF_X F0) XPb_fl) (fun G Qtq hg V' hV' hW' => j_228r hT hE hb (by decide) k1 h12 ?_)
      have hsp' : SQp (flX_ M0 2 a) N (bf_ N 2 (M 71 a)) := by
        have := SQ_P (SQ_bf hE0 hb (k := 2) (by decide) (QA_rf (M := N)))
        rw [f71] at this; exact this
      rw [if_neg (by decide)]
      exact q_248s hsp'.1 hsp'.2.1 (q_242s hsp'.1 (by rw [if_pos rfl]; exact q140_s hV' hW' hsp'.1 (hg _ hsp')))
    have R1 := RL_go R0 hE1
    have F1 := RLF_tr F0 (RLN_F (r := r) (RLN_go (b := b) (M := M0) (N := N)))
    have g7 : nX_ M0 117 r = 1 ∧ nX_ M0 118 r = 0 ∧ nX_ M0 114 = M 114 := by rw [nX_ne (by decide), nX_ne (by decide), nX_ne (by decide)]; exact ⟨c7, c8, c4⟩
    have toQ : ∀ {G : mm_ → Prop} {Qtq : qt_}, (∀ V' : vv_, Cl_ wd0 (Tr_ wd0 pg0 (dq + 18)) V' (rv_ G) Qtq m_245 → Wk_ V' → Tr_ wd0 pg0 (dq + 18) 248 [.inr (.inr 6), .inl 200] (nx_ N) (ri_ fun v4 M6 =>
        Tr_ wd0 pg0 (dq + 18) 242 [.inr (.inr 6), .inl 261] M6 (ri_ fun v5 M7 =>
         (if v5 = 0 then
          V' 140 [rr 6, ii x1, ii x2, jj v1, none, jj v2, none, ii v4, ii v4, ii 0, none, none, none] [] M7
         else
          (0 ≤ M7 6 12 ∧ M7 6 12 < 1202) ∧
           Tr_ wd0 pg0 (dq + 18) 248 [.inr (.inr 6), .inl 200] M7 (ri_ fun v6 M8 =>
           (if v4 ≤ v6 then
            V' 140 [rr 6, ii x1, ii x2, jj v1, none, jj v2, none, ii v4, ii v6, ii 1, none, none, none] [] M8
           else
            Tr_ wd0 pg0 (dq + 18) 236 [.inr (.inr 6), .inl 6, .inl (M7 150 (M7 6 12))] M8 (rv_ fun M9 =>
             V' 140 [rr 6, ii x1, ii x2, jj v1, none, jj v2, none, ii v4, ii v6, ii 1, none, none, none] [] M9) Qtq)) Qtq)) Qtq) Qtq) → q28 dq x1 x2 v1 v2 N G Qtq := fun hq V' hV' hW' => j_228t hT hE (by decide) k1 h12 (by rw [if_neg (by decide)]; exact hq V' hV' hW')
    refine ⟨R1.1.2.2, ?_⟩
    generalize nX_ M0 = Ma at *
    clear F0 c7 c5 c6 c8 c4 hE0 hT0 R0 k10 f70 f73 f71
    obtain ⟨f70, f73, f71⟩ := RLF_70 F1
    refine y_124 (dq := dq + 14) R1.1.1 hE1 (fun hb => by rw [f70, f73]; exact cnS_o (hS1 hb).1.1 (hS1 hb).1.2.1 (hS1 hb).1.2.2.2) (fun n1 m1 z1 h13 hE2 _ hq1 => ?_) (fun hb Mx' hx' hq' => ?_)
    rotate_left
    · exact hQ hb Mx' (XPb_tr (RLF_X F1) (XF_P hx')) (fun G Qtq hg => toQ fun V' hV' hW' => hq' _ _ fun v M9 p => q_242s p.1 (by
        rw [if_pos rfl]
        exact q140_s hV' hW' p.1 (hg _ (SQp_tr QPb_nx (SQ_P p)))))
    rw [f73] at m1 z1 hq1 ⊢
    rw [f70] at n1
    have R2 := RL_go R1 hE2
    have F2 := RLF_tr F1 (RLN_F (r := r) (RLN_go (b := b) (M := Ma) (N := nx_ N)))
    refine ⟨hr, R2.1.2.2, R2.1.2.2, hr, hr, ?_⟩
    rw [up_at]
    have R3 : RL b F (up_ (up_ (nX_ Ma) 115 r (M 73 (a + 1))) 116 r (M 73 (a + 1))) (nx_ (nx_ N)) (a + 1 + 1) := RL_up (by decide) (RL_up (by decide) R2)
    have F3 : RLF b r M N (up_ (up_ (nX_ Ma) 115 r (M 73 (a + 1))) 116 r (M 73 (a + 1))) (nx_ (nx_ N)) := RLF_tr (RLF_tr F2 (RLF_up (.inl ⟨by decide, rfl⟩))) (RLF_up (.inl ⟨by decide, rfl⟩))
    have c5 : (up_ (up_ (nX_ Ma) 115 r (M 73 (a + 1))) 116 r (M 73 (a + 1))) 115 r = M 73 (a + 1) := by rw [up_ne (by decide), up_at]
    have c6 : (up_ (up_ (nX_ Ma) 115 r (M 73 (a + 1))) 116 r (M 73 (a + 1))) 116 r = M 73 (a + 1) := up_at
    have c7 : (up_ (up_ (nX_ Ma) 115 r (M 73 (a + 1))) 116 r (M 73 (a + 1))) 117 r = 1 := by rw [up_ne (by decide), up_ne (by decide), nX_ne (by decide)]; exact g7.1
    have c8 : (up_ (up_ (nX_ Ma) 115 r (M 73 (a + 1))) 116 r (M 73 (a + 1))) 118 r = 0 := by rw [up_ne (by decide), up_ne (by decide), nX_ne (by decide)]; exact g7.2.1
    have c4 : (up_ (up_ (nX_ Ma) 115 r (M 73 (a + 1))) 116 r (M 73 (a + 1))) 114 = M 114 := by rw [up_ne (by decide), up_ne (by decide), nX_ne (by decide)]; exact g7.2.2
    generalize up_ (up_ (nX_ Ma) 115 r (M 73 (a + 1))) 116 r (M 73 (a + 1)) = Mb at *
    clear g7 R2 F2 hE1 R1 F1 f70 f73 f71 hE2
    obtain ⟨f70, f73, f71⟩ := RLF_70 F3
    have hE3 := R3.1.2.1
    have hT3 := R3.1.1
    have e12 : a + 1 + 1 = a + 2 := by omega
    rw [e12] at R3 hE3
    refine y_103 hE3 (fun k2 => ?_) (fun k2 => ?_)
    · rw [if_neg (by decide)]
      have k2' : M 70 (a + 2) = 115 := by rw [← f70]; exact k2
      have e8 : dl8 (M 70) (M 73) a = M 73 (a + 3) := by unfold dl8; rw [if_pos k1, if_pos k2']
      have em : dmt (M 70) (M 73) a = M 73 (a + 3) := by unfold dmt; rw [if_pos k1, if_pos k2']
      have ew : drw (M 70) a = 1 := by unfold drw; rw [if_pos k1, if_pos k2']
      have ee : dle (M 70) a = a + 4 := by unfold dle; rw [if_pos k1, if_pos k2']
      have hS2 : b = 1 → M 70 (a + 3) = 101 ∧ M 73 (a + 3) ≤ 200 ∧ 0 ≤ M 73 (a + 3) ∧ a + 3 < 1200 := fun hb => (hS1 hb).2 k2'
      refine y_105 hE3 (by omega) (fun hb => gS_o (by have := hS2 hb; omega)) (fun h14 hE4 => ?_) (fun hb h14 => ?_)
      rotate_left
      · have hsp := SQ_P (SQ_bf hE3 hb (k := 2) (by decide) (QA_rf (M := nx_ (nx_ N))))
        refine hQ hb _ (XPb_tr (RLF_X F3) XPb_fl) (fun G Qtq hg => toQ fun V' hV' hW' => hq1 _ _ (j_242r hT3 hE3 hb (by decide) k2 h14 ?_))
        exact q42r_s hV' hW' hsp.1 hsp.2.1 (hg _ (SQp_tr (QPb_tr QPb_nx QPb_nx) hsp))
      have R4 := RL_go R3 hE4
      have F4 := RLF_tr F3 (RLN_F (r := r) (RLN_go (b := b) (M := Mb) (N := nx_ (nx_ N))))
      have e13 : nX_ Mb 1 3 = a + 3 := by have := hE4.2.1; omega
      have e612 : nx_ (nx_ (nx_ N)) 6 12 = a + 3 := by have := hE4.2.2.1; omega
      rw [e13]
      refine ⟨R4.1.2.2, ⟨hr, .inr rfl⟩, R4.1.2.2, ?_⟩
      have R5 : RL b F (up_ (nX_ Mb) 118 r 1) (nx_ (nx_ (nx_ N))) (a + 3) := by
        have := RL_up (k := 118) (i := r) (v := 1) (by decide) R4
        rw [show a + 2 + 1 = a + 3 by omega] at this; exact this
      have F5 : RLF b r M N (up_ (nX_ Mb) 118 r 1) (nx_ (nx_ (nx_ N))) := RLF_tr F4 (RLF_up (.inl ⟨by decide, rfl⟩))
      have g5 : up_ (nX_ Mb) 118 r 1 115 r = M 73 (a + 1) := by rw [up_ne (by decide), nX_ne (by decide)]; exact c5
      have g7 : up_ (nX_ Mb) 118 r 1 117 r = 1 := by rw [up_ne (by decide), nX_ne (by decide)]; exact c7
      have g8 : up_ (nX_ Mb) 118 r 1 118 r = 1 := up_at
      have g4 : up_ (nX_ Mb) 118 r 1 114 = M 114 := by rw [up_ne (by decide), nX_ne (by decide)]; exact c4
      generalize up_ (nX_ Mb) 118 r 1 = Mc at *
      obtain ⟨f70', f73', f71'⟩ := RLF_70 F5
      have toQ2 : ∀ {G : mm_ → Prop} {Qtq : qt_}, (∀ V' : vv_, Cl_ wd0 (Tr_ wd0 pg0 (dq + 18)) V' (rv_ G) Qtq m_245 → Wk_ V' → Tr_ wd0 pg0 (dq + 18) 248 [.inr (.inr 6), .inl 200] (nx_ (nx_ (nx_ N))) (ri_ fun v6 M8 =>
           (if M 73 (a + 1) ≤ v6 then
            V' 140 [rr 6, ii x1, ii x2, jj v1, none, jj v2, none, ii (M 73 (a + 1)), ii v6, ii 1, none, none, none] [] M8
           else
            Tr_ wd0 pg0 (dq + 18) 236 [.inr (.inr 6), .inl 6, .inl (nx_ (nx_ (nx_ N)) 150 (nx_ (nx_ (nx_ N)) 6 12))] M8 (rv_ fun M9 =>
             V' 140 [rr 6, ii x1, ii x2, jj v1, none, jj v2, none, ii (M 73 (a + 1)), ii v6, ii 1, none, none, none] [] M9) Qtq)) Qtq) → q28 dq x1 x2 v1 v2 N G Qtq := fun hq => toQ fun V' hV' hW' => hq1 _ _ (j_242t hT3 hE3 (by decide) k2 h14 (by
          rw [if_neg (by decide)]
          exact ⟨by omega, hq V' hV' hW'⟩))
      refine y_dl2 (dq := dq) (v1 := M 73 (a + 1)) R5 hr (fun hb => by rw [f70', f73']; have := hS2 hb; omega) g5 (fun M1 N1 R6 F6 w6 o6 l6 hq6 => ?_) (fun hb Mx' hx' hq' => ?_)
      · rw [f73'] at w6 hq6 l6
        rw [f70', f73'] at o6
        refine hK M1 N1 (by rw [ee, show a + 4 = a + 3 + 1 by omega]; exact R6) (RLF_tr F5 F6) ⟨⟨by rw [w6.1, et]; exact g5, by rw [em]; exact w6.2.1, by rw [w6.2.2.1, eb]; exact g7, by rw [w6.2.2.2.1, ew]; exact g8⟩, by rw [w6.2.2.2.2]; exact g4⟩ (fun _ => ⟨⟨n1, m1, z1, h13⟩, fun _ => o6⟩) (fun hb hz => by rw [et, em]; exact l6 hb hz) (fun G Qtq hq => toQ2 fun V' hV' hW' => ?_)
        refine hq6 V' Qtq (fun v6 M8 => V' 140 [rr 6, ii x1, ii x2, jj v1, none, jj v2, none, ii (M 73 (a + 1)), ii v6, ii 1, none, none, none] [] M8) ?_ (fun _ h => h)
        have := hq V' hV' hW'
        rw [e7, e8, ew] at this; exact this
      · exact hQ hb Mx' (XPb_tr (RLF_X F5) hx') (fun G Qtq hg => toQ2 fun V' hV' hW' => hq' _ _ fun v M9 p => q248z hV' hW' p.1 (hg _ (SQp_tr (QPb_tr (QPb_tr QPb_nx QPb_nx) QPb_nx) p)))
    · rw [if_pos rfl]
      have k2' : ¬ M 70 (a + 2) = 115 := by rw [← f70]; exact k2
      have e8 : dl8 (M 70) (M 73) a = M 73 (a + 1) := by unfold dl8; rw [if_pos k1, if_neg k2']
      have em : dmt (M 70) (M 73) a = M 73 (a + 1) := by unfold dmt; rw [if_pos k1, if_neg k2']
      have ew : drw (M 70) a = 0 := by unfold drw; rw [if_pos k1, if_neg k2']
      have ee : dle (M 70) a = a + 2 := by unfold dle; rw [if_pos k1, if_neg k2']
      refine hK Mb _ (by rw [ee]; exact R3) F3 ⟨⟨by rw [et]; exact c5, by rw [em]; exact c6, by rw [eb]; exact c7, by rw [ew]; exact c8⟩, c4⟩ (fun _ => ⟨⟨n1, m1, z1, h13⟩, fun e => absurd e k2'⟩) (fun _ _ => by rw [et, em]; exact Int.le_refl _) (fun G Qtq hq => toQ fun V' hV' hW' => hq1 _ _ (j_242f hT3 hE3 (by decide) k2 ?_))
      rw [if_pos rfl]
      have := hq V' hV' hW'
      rw [e7, e8, ew] at this; exact this
  · obtain ⟨R0, F0⟩ := A 0
    obtain ⟨c7, c5, c6, c8, c4⟩ := A7 0
    refine ⟨⟨hr, .inl rfl⟩, m12, hr, m12, hr, m12, ⟨hr, .inl rfl⟩, m12, hr, fun _ => ?_⟩
    rw [up_at, if_pos rfl]
    have e7 : dl7 (M 70) (M 73) a = -1 := by unfold dl7; rw [if_neg k1]
    have e8 : dl8 (M 70) (M 73) a = -1 := by unfold dl8; rw [if_neg k1]
    have ew : drw (M 70) a = 0 := by unfold drw; rw [if_neg k1]
    have ee : dle (M 70) a = a := by unfold dle; rw [if_neg k1]
    refine hK _ N (by rw [ee]; exact R0) F0 ⟨⟨?_, ?_, ?_, ?_⟩, c4⟩ (fun e => absurd e k1) (fun _ _ => by unfold dlt dmt; rw [if_neg k1, if_neg k1]; exact Int.le_refl _) (fun G Qtq hq V' hV' hW' => j_228f hT hE (by decide) k1 ?_)
    · unfold dlt; rw [if_neg k1]; exact c5
    · unfold dmt; rw [if_neg k1]; exact c6
    · unfold dlb; rw [if_neg k1]; exact c7
    · rw [ew]; exact c8
    · rw [if_pos rfl]
      have := hq V' hV' hW'
      rw [e7, e8, ew] at this; exact this
end RTd
end T282_rt

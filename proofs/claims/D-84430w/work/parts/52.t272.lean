section T272_sn
/-! a signal's name (X 104 V 0 | Q 232 V 2) -/
def TSG (M : mm_) (ns : Int) : Int → Bool := fun t => decide (ns < M 5 0 ∧ M 56 ns = t)
def snS (κ : Int → Int) (tm : Int → Bool) (a : Int) : Option Int := (gS a).bind fun a1 => (tS κ 100 a1).bind fun a2 => if tm a1 then some a2 else none
def q32 (dq : Nat) (N : mm_) (G : mm_ → Prop) (Qt : qt_) : Prop := ∀ V : vv_, Cl_ wd0 (Tr_ wd0 pg0 (dq + 18)) V (rv_ G) Qt m_232 → Wk_ V → V 2 [rr 6, ii 1, none, none] [] (nx_ N)
def q75 (dq : Nat) (idx : Int) (N : mm_) (G : mm_ → Prop) (Qt : qt_) : Prop := ∀ V : vv_, Cl_ wd0 (Tr_ wd0 pg0 (dq + 18)) V (rv_ G) Qt m_232 → Wk_ V → Tr_ wd0 pg0 (dq + 18) 237 [.inr (.inr 6), .inl 40] N (ri_ fun v4 M5 =>
   (if v4 = 0 then
    Tr_ wd0 pg0 (dq + 18) 242 [.inr (.inr 6), .inl 44] M5 (ri_ fun v5 M6 =>
     V 2 [rr 6, ii v5, none, none] [] M6) Qt
   else
    Tr_ wd0 pg0 (dq + 18) 238 [.inr (.inr 6), .inl idx] M5 (rv_ fun M7 =>
     Tr_ wd0 pg0 (dq + 18) 242 [.inr (.inr 6), .inl 44] M7 (ri_ fun v6 M8 =>
      V 2 [rr 6, ii v6, none, none] [] M8) Qt) Qt)) Qt
section SNm
variable {dq : Nat} {b F F1 : Int} {ns nr np t : Int} {Kv G : mm_ → Prop} {Qt Qtq : qt_} {V V' : vv_} {M N Mx' M' N' M1 N1 : mm_} {a a' : Int}
theorem q32_s [Inhabited gh_] {x : Int} (hV : Cl_ wd0 (Tr_ wd0 pg0 (dq + 18)) V' (rv_ G) Qtq m_232) (hW : Wk_ V') (hs : sp_ N) (h : G N) : V' 2 [rr 6, ii x, none, none] [] N := by
  refine b_232_2 (Tr_mono _) hV hW _ _ ?_
  by_cases c : x = 0
  · rw [if_pos c]; exact q_244s hs (rv_i h)
  · rw [if_neg c]; exact q_227s hs (by rw [if_neg (by decide)]; exact q_244s hs (rv_i h))
theorem y_snm [Inhabited gh_] (hV : Cl_ wd0 (Tr_ wd0 pg0 130) V (rv_ Kv) Qt m_104) (hW : Wk_ V) (h : SYS b F M N a ns nr np) (hkd : M 70 a ≠ 102 ∧ M 70 a ≠ 103) (hS : b = 1 → snS (M 70) (TSG M ns) a ≠ none) (h12' : a < 1200)
    (hK : ∀ F1 Mz Nz idx, SY0 b F1 (SGM b Mz ns 0) Nz (a + 2) → (b = 0 → idx = ns ∧ Mz = sx1_ (gd1_ (nX_ (nX_ M)) (nx_ (nx_ N)) (a + 1)) (a + 1) ∧ Nz = sq_ (gq_ (nx_ (nx_ N)) (a + 1)) (a + 1)) → (b = 1 → Mz = nX_ (nX_ M) ∧ GWI (nx_ (nx_ N)) (a + 1) Nz) → Mz 56 ns = a + 1 → ns < Mz 5 0 → (F1 ≤ F ∧ (b = 1 → F1 = F) ∧ GNO b F F1 M N Nz (a + 1)) → (∀ tm : Int → Bool, tm (a + 1) = true → snS (M 70) tm a = some (a + 2)) → (∀ (G : mm_ → Prop) (Qtq : qt_), q75 dq idx Nz G Qtq → q32 dq N G Qtq) → V 78 [rr 1, ii (a + 1), none, none, none] [] Mz)
    (hQ : b = 0 → ∀ Mx', XPb M Mx' → (∀ (G : mm_ → Prop) (Qtq : qt_), (∀ M', SQp Mx' N M' → G M') → q32 dq N G Qtq) → Qt 8 Mx') :
    V 0 [rr 1, none, none, none, none] [] M := by
  have hE := h.1.1.2.1
  have hT := h.1.1.1
  have ha := ER_a hE
  have h01 := bl01 hE
  have hns := h.2.1.2.1.1
  have fl := h.1.2.2.2.2.1.2.2.1
  refine b_104_0 (Tr_mono _) hV hW _ ?_
  refine y_105 hE hkd (fun hb => bind_n (hS hb)) (fun h12 hE1 => ?_) (fun hb h12 => by omega)
  have S1 := SYS_go h hE1
  have hT1 := S1.1.1.1
  have x70 : nX_ M 70 = M 70 := nX_ne (by decide)
  have toQ : ∀ {G : mm_ → Prop} {Qtq : qt_}, (∀ V' : vv_, Cl_ wd0 (Tr_ wd0 pg0 (dq + 18)) V' (rv_ G) Qtq m_232 → Wk_ V' → Tr_ wd0 pg0 (dq + 18) 233 [.inr (.inr 6)] (nx_ N) (ri_ fun v2 M4 =>
     Tr_ wd0 pg0 (dq + 18) 227 [.inr (.inr 6)] M4 (ri_ fun v3 M5 =>
      (if v3 = 0 then
       (bl_ (M5 6 16) → (if M5 6 16 = 0 then
        (if M5 6 17 = 20 then
         (0 ≤ v2 ∧ v2 < 1202) ∧
          Tr_ wd0 pg0 (dq + 18) 231 [.inr (.inr 6), .inl 2, .inl (M5 150 v2)] M5 (rv_ fun M8 =>
          rv_ G [] M8) Qtq
        else
         Tr_ wd0 pg0 (dq + 18) 235 [.inr (.inr 6), .inl v2] M5 (rv_ fun M7 =>
          (bl_ (M7 6 16) → (if M7 6 16 = 0 then
           V' 75 [rr 6, ii 1, ii v2, ii (M7 6 17)] [] M7
          else
           V' 75 [rr 6, ii 1, ii v2, ii 0] [] M7))) Qtq)
       else
        Tr_ wd0 pg0 (dq + 18) 235 [.inr (.inr 6), .inl v2] M5 (rv_ fun M6 =>
         (bl_ (M6 6 16) → (if M6 6 16 = 0 then
          V' 75 [rr 6, ii 1, ii v2, ii (M6 6 17)] [] M6
         else
          V' 75 [rr 6, ii 1, ii v2, ii 0] [] M6))) Qtq))
      else
       rv_ G [] M5)) Qtq) Qtq) → q32 dq N G Qtq := fun hq V' hV' hW' => b_232_2 (Tr_mono _) hV' hW' _ _ (by
      rw [if_neg (by decide)]
      refine q_227g (ER_goq hE1) ?_
      rw [if_pos rfl]
      exact hq V' hV' hW')
  refine y_107 hE1 (fun hb => by
    rw [x70]
    have := hS hb
    unfold snS at this
    rw [gS_e h12, Option.bind_some] at this
    exact bind_n this) (fun k1 h13 hE2 => ?_) (fun hb k1 h13 => ?_) (fun hb k1 => ?_)
  rotate_left
  · have hsp := SQ_bf hE1 hb (k := 2) (by decide) QA_rf
    exact hQ hb _ (XPb_tr XPb_nX XPb_fl) (fun G Qtq hg => toQ fun V' hV' hW' => j_233r hT1 hE1 hb k1 h13 (q_227s hsp.1 (by rw [if_neg (by decide)]; exact rv_i (hg _ (SQp_tr QPb_nx (SQ_P hsp))))))
  · have hsp := SQ_bf hE1 hb (k := 1) (by decide) QA_rf
    exact hQ hb _ (XPb_tr XPb_nX XPb_fl) (fun G Qtq hg => toQ fun V' hV' hW' => j_233w hT1 hE1 hb k1 (q_227s hsp.1 (by rw [if_neg (by decide)]; exact rv_i (hg _ (SQp_tr QPb_nx (SQ_P hsp))))))
  have S2 := SYS_go S1 hE2
  have hT2 := S2.1.1.1
  have k1' : M 70 (a + 1) = 100 := by rw [← x70]; exact k1
  have r2 : ∀ r : Nat, r ≠ 1 → nX_ (nX_ M) r = M r := fun r h => by rw [nX_ne h, nX_ne h]
  have nmt : nm9_ (nX_ (nX_ M)) (a + 1) := ⟨gd_c (nX_ne (by decide)) hE1.1, by rw [r2 70 (by decide)]; exact k1'⟩
  have e8 : nX_ (nX_ M) 1 8 = b := hE2.2.2.2.2.2.2.1
  have e16 : nx_ (nx_ N) 6 16 = b := hE2.2.2.2.2.2.2.2.1
  have e12 : nX_ (nX_ M) 1 2 = 5 := S2.1.1.2.2
  have e5 : nX_ (nX_ M) 5 = M 5 := r2 5 (by decide)
  have glu := S2.1.2.1.2.2.2.2
  have a50 := S2.1.2.1.1.1.1
  have r5 := S2.1.2.1.2.2.1.1
  have p5 := S2.1.2.1.2.1.1.1
  have g1 := glu.1
  rw [e5] at a50 r5 p5 g1
  have eS : ∀ tm : Int → Bool, tm (a + 1) = true → snS (M 70) tm a = some (a + 2) := fun tm htm => by
    unfold snS
    rw [gS_e h12, Option.bind_some, tS_e k1' h13, Option.bind_some, if_pos htm]
    rw [show a + 1 + 1 = a + 2 by (clear hV hW h hkd hS h12' hK hQ hE hT ha h01 hns fl h12 hE1 S1 hT1 x70 toQ k1 h13 hE2 S2 hT2 k1' r2 nmt e8 e16 e12 e5 glu a50 r5 p5 g1 htm; lia)]
  have f7 : nX_ (nX_ M) 1 7 = M 1 7 := by rw [nX_1 (by decide), nX_1 (by decide)]
  intro _
  rw [e8]
  rcases h01 with hb | hb
  · rw [if_pos hb]
    have e50 : M 5 0 = ns := (h.2.1.2.2 hb).1
    refine ⟨e12, ?_⟩
    rw [e5, e50]
    by_cases c6 : ns = 20
    · rw [if_pos c6]
      refine x_110 (by (clear hV hW h hkd hS hK hQ hE hT hns fl h12 hE1 S1 hT1 x70 toQ k1 hE2 S2 hT2 k1' r2 nmt e8 e16 e12 e5 glu a50 r5 p5 g1 eS f7 hb e50 c6; omega)) (by (clear hV hW h hkd hS hK hQ hE hT hns fl h12 hE1 S1 hT1 x70 toQ k1 hE2 S2 hT2 k1' r2 nmt e8 e16 e12 e5 glu a50 r5 p5 g1 eS f7 hb e50 c6; omega)) (fun e => absurd e (by decide)) (fun _ => ?_)
      have e150 : nx_ (nx_ N) 150 (a + 1) = nX_ (nX_ M) 71 (a + 1) := ((hT2 (a + 1) nmt.1).2.1).symm
      have sp2 : sp_ (bf_ (nx_ (nx_ N)) 2 (nX_ (nX_ M) 71 (a + 1))) := bf_sp (e16.trans hb) (by decide)
      refine hQ hb _ (XPb_tr (XPb_tr XPb_nX XPb_nX) XPb_fl) (fun G Qtq hg => toQ fun V' hV' hW' => j_233t hT1 hE1 k1 h13 (q_227g (ER_goq hE2) ?_))
      rw [if_pos rfl]
      intro _
      rw [e16, if_pos hb, if_pos (by rw [a50.2.2]; (clear hV hW h hkd hS h12' hK hQ hE hT ha hns fl h12 hE1 S1 hT1 x70 toQ k1 h13 hE2 S2 hT2 k1' r2 nmt e8 e16 e12 e5 glu eS f7 hb e150 sp2 hg hV' hW'; lia))]
      refine ⟨by omega, q_231o (hE2.2.2.2.2.2.2.2.2.2.1 hb) ?_⟩
      rw [e150]
      refine rv_i (hg _ ⟨sp2, ?_, ?_, ?_, QPb_tr (QPb_tr QPb_nx QPb_nx) (QF_P bf_QF)⟩)
      · unfold in9_; rw [bf_6 (by decide) (by decide), hE2.2.2.1]; omega
      · unfold bf_ flX_; rw [up_off (by decide), up_at, up_off (by decide), up_at]
      · refine ⟨?_, fl_b7 (by assumption)⟩; unfold bf_ flX_; rw [up_at, up_at]
    rw [if_neg c6]
    have glt : ∀ u, GLM (nX_ (nX_ M)) u → u < a + 1 := fun u hu => by
      have : GLM M u := by
        unfold GLM at hu ⊢
        rw [r2 5 (by decide), r2 56 (by decide), r2 57 (by decide), r2 58 (by decide)] at hu
        exact hu
      have := h.1.2.2.2.1.2 hb u this
      (clear hV hW h hkd hS h12' hK hQ hE hT ha hns fl h12 hE1 S1 hT1 x70 toQ k1 h13 hE2 S2 hT2 k1' r2 nmt e8 e16 e12 e5 glu a50 r5 p5 g1 eS f7 hb e50 c6 hu; omega)
    have Z := SY_sg (t := a + 1) S2.1 hb nmt (by omega) glt (by rw [e5]; (clear hV hW h hkd hS h12' hK hQ hE hT ha hns fl h12 hE1 S1 hT1 x70 toQ k1 h13 hE2 S2 hT2 k1' r2 nmt e8 e16 e12 e5 glu eS f7 hb glt; lia)) (by rw [f7]; (clear hV hW h hkd hS h12' hK hQ hE hT ha hns h12 hE1 S1 hT1 x70 toQ k1 h13 hE2 S2 hT2 k1' r2 nmt e8 e16 e12 e5 glu a50 r5 p5 g1 eS hb e50 c6 glt; lia))
    rw [e5, e50] at Z
    have g50 : gd1_ (nX_ (nX_ M)) (nx_ (nx_ N)) (a + 1) 5 0 = ns := by rw [gd1_r (by decide), e5]; exact e50
    have g12 : gd1_ (nX_ (nX_ M)) (nx_ (nx_ N)) (a + 1) 1 2 = 5 := by rw [gd1_1 (by decide) (by decide) (by decide)]; exact e12
    have kk := sx1_k (M := gd1_ (nX_ (nX_ M)) (nx_ (nx_ N)) (a + 1)) (t := a + 1)
    rw [g50] at kk
    have b50 : 0 ≤ gd1_ (nX_ (nX_ M)) (nx_ (nx_ N)) (a + 1) 5 0 ∧ gd1_ (nX_ (nX_ M)) (nx_ (nx_ N)) (a + 1) 5 0 < 20 := by rw [g50]; (clear hV hW h hkd hS h12' hK hQ hE hT ha hns fl h12 hE1 S1 hT1 x70 toQ k1 h13 hE2 S2 hT2 k1' r2 nmt e8 e16 e12 e5 glu eS f7 hb glt Z g12; lia)
    have fin : V 78 [rr 1, ii (a + 1), none, none, none] [] (sx1_ (gd1_ (nX_ (nX_ M)) (nx_ (nx_ N)) (a + 1)) (a + 1)) := by
      refine hK (Fg_ F (nX_ (nX_ M)) (nx_ (nx_ N)) (a + 1)) _ (sq_ (gq_ (nx_ (nx_ N)) (a + 1)) (a + 1)) ns ?_ (fun _ => ⟨rfl, rfl, rfl⟩) (fun hb1 => by (clear hV hW h hkd hS h12' hK hQ hE hT ha hns fl h12 hE1 S1 hT1 x70 toQ k1 h13 hE2 S2 hT2 k1' r2 nmt e8 e12 e5 glu a50 r5 p5 g1 eS f7 e50 c6 glt Z g50 g12 kk b50; lia)) kk.2 (by rw [kk.1]; (clear hV hW h hkd hS h12' hK hQ hE hT ha hns fl h12 hE1 S1 hT1 x70 toQ k1 h13 hE2 S2 hT2 k1' r2 nmt e8 e16 e12 e5 glu a50 r5 p5 g1 eS f7 hb e50 c6 glt Z g50 g12 kk b50; lia)) ⟨Fg_le, fun hb1 => by omega, (GNO_c (M2 := M) (N2 := N) (by rw [hb]; exact GNO_0 S2.1.2.1.1.1 S2.1.2.1.2.2.1 S2.1.2.1.2.1.1) (fun r hr => (r2 r (fun e => by rw [e] at hr; revert hr; decide)).symm) (by rw [nx_ne (by decide), nx_ne (by decide)]) (by rw [nx_6 (by decide), nx_6 (by decide)]) (by rw [nx_6 (by decide), nx_6 (by decide)]))⟩ eS (fun G Qtq hq => toQ fun V' hV' hW' => j_233t hT1 hE1 k1 h13 (q_227g (ER_goq hE2) ?_))
      · unfold SGM
        rw [if_pos hb, show a + 2 = a + 1 + 1 by (clear hV hW h hkd hS h12' hK hQ hE hT ha hns fl h12 hE1 S1 hT1 x70 toQ k1 h13 hE2 S2 hT2 k1' r2 nmt e8 e16 e12 e5 glu a50 r5 p5 g1 eS f7 hb e50 c6 glt Z g50 g12 kk b50; lia)]; exact Z
      · have g17 : gq_ (nx_ (nx_ N)) (a + 1) 6 17 = ns := by rw [gq_6 (by decide), a50.2.2]; exact e50
        have g16 : gq_ (nx_ (nx_ N)) (a + 1) 6 16 = b := by rw [gq_6 (by decide)]; exact e16
        rw [if_pos rfl]
        intro _
        rw [e16, if_pos hb, if_neg (by rw [a50.2.2]; (clear hV hW h hkd hS h12' hK hQ hE hT ha hns fl h12 hE1 S1 hT1 x70 toQ k1 h13 hE2 S2 hT2 k1' r2 nmt e8 e16 e12 e5 glu eS f7 hb c6 glt Z g12 hq hV' hW' g16; lia))]
        refine q_235n (ER_goq hE2) (e16.trans hb) (by (clear hV hW h hkd hS h12' hK hQ hE hT ha hns fl h12 hE1 S1 hT1 x70 toQ k1 h13 hE2 S2 hT2 k1' r2 nmt e8 e16 e12 e5 glu eS f7 hb c6 glt Z g12 hq hV' hW' g16; lia)) (by (clear hV hW h hkd hS hK hQ hE hT hns fl h12 hE1 S1 hT1 x70 toQ k1 hE2 S2 hT2 k1' r2 nmt e8 e16 e12 e5 glu a50 r5 p5 g1 eS f7 hb e50 c6 glt Z g50 g12 b50 hq hV' hW' g17 g16; omega)) ?_
        intro _
        rw [g16, if_pos hb, g17]
        refine b_232_75 (Tr_mono _) hV' hW' _ _ _ _ ?_
        intro _
        have hq' := hq V' hV' hW'
        unfold sq_ at hq'
        rw [g17] at hq'
        rw [g16, if_pos hb, g17, w32_id (x := ns + 1) (by (clear hV hW h hkd hS h12' hK hQ hE hT ha hns fl h12 hE1 S1 hT1 x70 toQ k1 h13 hE2 S2 hT2 k1' r2 nmt e8 e16 e12 e5 glu eS f7 hb c6 glt Z g12 hq hV' hW' g16 hq'; lia)) (by (clear hV hW h hkd hS h12' hK hQ hE hT ha hns fl h12 hE1 S1 hT1 x70 toQ k1 h13 hE2 S2 hT2 k1' r2 nmt e8 e16 e12 e5 glu eS f7 hb c6 glt Z g12 hq hV' hW' g16 hq'; lia))]
        exact ⟨by omega, by (clear hV hW h hkd hS h12' hK hQ hE hT ha hns fl h12 hE1 S1 hT1 x70 toQ k1 h13 hE2 S2 hT2 k1' r2 nmt e8 e16 e12 e5 glu eS f7 hb c6 glt Z g12 hq hV' hW' g16 hq'; lia), by omega, by (clear hV hW h hkd hS h12' hK hQ hE hT ha hns fl h12 hE1 S1 hT1 x70 toQ k1 h13 hE2 S2 hT2 k1' r2 nmt e8 e16 e12 e5 glu eS f7 hb c6 glt Z g12 hq hV' hW' g16 hq'; lia), by (clear hV hW h hkd hS h12' hK hQ hE hT ha hns fl h12 hE1 S1 hT1 x70 toQ k1 h13 hE2 S2 hT2 k1' r2 nmt e8 e16 e12 e5 glu eS f7 hb c6 glt Z g12 hq hV' hW' g16 hq'; lia), hq'⟩
    refine x_110 (by (clear hV hW h hkd hS hK hQ hE hT hns fl h12 hE1 S1 hT1 x70 toQ k1 hE2 S2 hT2 k1' r2 nmt e8 e16 e12 e5 glu a50 r5 p5 g1 eS f7 hb e50 c6 glt Z g50 g12 b50 fin; lia)) (by (clear hV hW h hkd hS hK hQ hE hT hns fl h12 hE1 S1 hT1 x70 toQ k1 hE2 S2 hT2 k1' r2 nmt e8 e16 e12 e5 glu a50 r5 p5 g1 eS f7 hb e50 c6 glt Z g50 g12 b50 fin; omega)) (fun _ => ?_) (fun e => absurd rfl e)
    refine b_104_38 (Tr_mono _) hV hW _ _ ?_
    refine x_111s hT2 e12 S2.1.2.1.1.1 S2.1.2.1.2.2.1 S2.1.2.1.2.1.1 nmt (fun c => ?_) (fun c => ?_)
    · rw [if_pos rfl]
      unfold gd1_ at fin g12 b50 g50
      rw [if_pos c] at fin g12 b50 g50
      rw [w32_id (x := nX_ (nX_ M) 5 0 + 1) (by (clear hV hW h hkd hS h12' hK hQ hE hT ha hns fl h12 hE1 S1 hT1 x70 toQ k1 h13 hE2 S2 hT2 k1' r2 nmt e8 e16 e12 e5 glu eS f7 hb c6 glt Z g12 fin c; lia)) (by (clear hV hW h hkd hS h12' hK hQ hE hT ha hns fl h12 hE1 S1 hT1 x70 toQ k1 h13 hE2 S2 hT2 k1' r2 nmt e8 e16 e12 e5 glu eS f7 hb c6 glt Z g12 fin c; lia))]
      exact ⟨g12, b50, g12, fin⟩
    · rw [if_neg (by decide)]
      unfold gd1_ at fin g12 b50 g50
      rw [if_neg c] at fin g12 b50 g50
      refine x_116 (by omega) (by omega) (by rw [f7]; exact hE.2.2.2.2.2.2.2.2.2.2.2.1) (by rw [f7]; (clear hV hW h hkd hS hK hQ hE hT hns h12 hE1 S1 hT1 x70 toQ k1 hE2 S2 hT2 k1' r2 nmt e8 e16 e12 e5 glu a50 r5 p5 g1 eS hb e50 c6 glt Z g50 g12 b50 fin c; lia)) ?_
      rw [w32_id (x := nt1_ (nX_ (nX_ M)) 3 (a + 1) 5 0 + 1) (by (clear hV hW h hkd hS h12' hK hQ hE hT ha hns fl h12 hE1 S1 hT1 x70 toQ k1 h13 hE2 S2 hT2 k1' r2 nmt e8 e16 e12 e5 glu eS f7 hb c6 glt Z g12 fin c; lia)) (by (clear hV hW h hkd hS h12' hK hQ hE hT ha hns fl h12 hE1 S1 hT1 x70 toQ k1 h13 hE2 S2 hT2 k1' r2 nmt e8 e16 e12 e5 glu eS f7 hb c6 glt Z g12 fin c; lia))]
      exact ⟨g12, b50, g12, fin⟩
  · rw [if_neg (by omega)]
    have tmb : TSG M ns (a + 1) = true := by
      have := hS hb
      unfold snS at this
      rw [gS_e h12, Option.bind_some, tS_e k1' h13, Option.bind_some] at this
      by_cases c : TSG M ns (a + 1) = true
      · exact c
      · rw [if_neg c] at this; exact absurd rfl this
    have tm2 : ns < M 5 0 ∧ M 56 ns = a + 1 := by unfold TSG at tmb; exact of_decide_eq_true tmb
    obtain ⟨Nz, ⟨hw, hwn⟩, hq⟩ := q_235j (N := nx_ (nx_ N)) (t := a + 1) (e16.trans hb) (by (clear hV hW h hkd hS h12' hK hQ hE hT ha fl h12 hE1 S1 hT1 x70 toQ k1 h13 hE2 S2 hT2 k1' r2 nmt e8 e16 e12 e5 glu eS f7 hb tmb; omega)) (by (clear hV hW h hkd hS hK hQ hE hT hns fl h12 hE1 S1 hT1 x70 toQ k1 hE2 S2 hT2 k1' r2 nmt e8 e16 e12 e5 glu a50 r5 p5 g1 eS f7 hb tmb; omega))
    have gm : GLM (nX_ (nX_ M)) (a + 1) := .inl ⟨ns, by rw [e5]; exact ⟨hns, tm2.1⟩, by rw [r2 56 (by decide)]; exact tm2.2⟩
    have Z := SY_gw S2.1 hb nmt gm hw
    refine hK F (nX_ (nX_ M)) Nz 0 ?_ (fun hb0 => by omega) (fun _ => ⟨rfl, hw⟩) (by rw [r2 56 (by decide)]; exact tm2.2) (by rw [e5]; exact tm2.1) ⟨Int.le_refl _, fun _ => rfl, (GNO_c (M2 := M) (N2 := N) (by rw [hb]; exact GNO_1 S2.1.2.1.1.1 S2.1.2.1.2.2.1 S2.1.2.1.2.1.1 hT2 S2.1.2.1.2.2.2.2 nmt (e16.trans hb) hE2.2.2.2.2.2.2.2.2.2.2.1.2.1 ⟨hw, hwn⟩) (fun r hr => (r2 r (fun e => by rw [e] at hr; revert hr; decide)).symm) (by rw [nx_ne (by decide), nx_ne (by decide)]) (by rw [nx_6 (by decide), nx_6 (by decide)]) (by rw [nx_6 (by decide), nx_6 (by decide)]))⟩ eS (fun G Qtq hg => toQ fun V' hV' hW' => j_233t hT1 hE1 k1 h13 (q_227g (ER_goq hE2) ?_))
    · unfold SGM
      rw [if_neg (by omega), show a + 2 = a + 1 + 1 by omega]; exact Z
    · rw [if_pos rfl]
      intro _
      rw [e16, if_neg (by (clear hV hW h hkd hS h12' hK hQ hE hT ha hns fl h12 hE1 S1 hT1 x70 toQ k1 h13 hE2 S2 hT2 k1' r2 nmt e8 e12 e5 glu a50 r5 p5 g1 eS f7 tmb tm2 hq hw hwn gm Z hg hV' hW'; lia))]
      refine hq _ _ _ ?_
      intro _
      rw [GWI_6 hw (by decide) (by decide), e16, if_neg (by omega)]
      refine b_232_75 (Tr_mono _) hV' hW' _ _ _ _ ?_
      intro _
      rw [GWI_6 hw (by decide) (by decide), e16, if_neg (by (clear hV hW h hkd hS h12' hK hQ hE hT ha hns fl h12 hE1 S1 hT1 x70 toQ k1 h13 hE2 S2 hT2 k1' r2 nmt e8 e12 e5 glu a50 r5 p5 g1 eS f7 tmb tm2 hq hw hwn gm Z hg hV' hW'; lia))]
      exact hg V' hV' hW'
end SNm
end T272_sn
section T273_se
/-! behind a signal: the system's relation again -/
section SEn
variable {b F F1 : Int} {ns nr np k : Int} {M N Mz Nz Me Ne : mm_} {a a' : Int}
/-- from SYS to SYS, with a signal more -/
theorem SYS_sg [Inhabited gh_] (h : SYS b F M N a ns nr np) (hY : SY0 b F1 Me Ne a') (h1 : Me 1 31 = ns + 1 ∧ Me 1 32 = M 1 32 ∧ Me 1 33 = M 1 33) (h5 : b = 0 → Me 5 0 = ns + 1 ∧ Me 5 1 = M 5 1) (h52 : Me 5 2 = M 5 2) (hx : ∀ r : Nat, r ∈ rwX → Me r = M r) (hq : ∀ r : Nat, r ∈ rwQ → Ne r = N r) : SYS b F1 Me Ne a' (ns + 1) nr np := by
  obtain ⟨g1, ⟨⟨c1, c2, c3⟩, ⟨d1, d2, d3⟩, d4⟩, g3⟩ := h
  refine ⟨hY, ⟨⟨h1.1, by rw [h1.2.1]; exact c2, by rw [h1.2.2]; exact c3⟩, ⟨by omega, d2, d3⟩, fun hb => ⟨(h5 hb).1, by rw [(h5 hb).2]; exact (d4 hb).2.1, by rw [h52]; exact (d4 hb).2.2⟩⟩, fun T T0 T1 => ?_⟩
  rw [h52] at T1
  exact CNT_c (g3 T T0 T1) (ROW_e hx hq)
theorem up31 [Inhabited gh_] (h : SY0 b F (SGM b M ns k) N a) (v : Int) : SY0 b F (SGM b (up_ M 1 31 v) ns k) N a := by
  have e : SGM b (up_ M 1 31 v) ns k = up_ (SGM b M ns k) 1 31 v := by
    unfold SGM
    by_cases c : b = 0
    · rw [if_pos c, if_pos c]; exact up_cc (.inl (by decide))
    · rw [if_neg c, if_neg c]
  rw [e]
  exact SY_1 h (ER_1 h.1.2.1 (up_ne (by decide)) (by rw [up_ne (by decide)]) (fun i hi => up_of2 (fun e => by rw [e] at hi; revert hi; decide)) (fun _ _ => rfl)) (Int.le_refl _) (fun r hr => up_ne hr) (fun i hi => up_of2 (fun e => by rw [e] at hi; revert hi; decide)) (by rw [up_of2 (by decide)]; exact h.2.2.2.2.1.2.2.1) (fun _ _ => rfl) (fun _ _ => rfl)
/-- X's last write of 112 -/
theorem SGM_up [Inhabited gh_] (hb : b = 1 → k = M 112 ns) (h01 : b = 0 ∨ b = 1) : up_ M 112 ns k = SGM b M ns k := by
  unfold SGM
  rcases h01 with c | c
  · rw [if_pos c]
  · rw [if_neg (by omega), hb c]; exact up_id
end SEn
end T273_se
section T274_s1
/-! a signal whole (X 104 | Q 232) -/
def sgnS (κ : Int → Int) (gm : Int → Int) (cm : Int) (tm : Int → Bool) (ns a : Int) : Option Int := (snS κ tm a).bind fun a2 => if κ a2 = 240 then (SGL κ gm ns (a2, 0)).bind fun r => if r.2 = cm then some r.1 else none else if cm = 0 then some a2 else none
def z117 (V : vv_) (Kv : mm_ → Prop) (Qt : qt_) (M : mm_) : Prop := Tr_ wd0 pg0 130 117 [.inr (.inr 1), .inl 44] M (ri_ fun v2 M3 =>
     (if v2 = 0 then
      Tr_ wd0 pg0 130 121 [.inr (.inr 1), .inl 59] M3 (rv_ fun M4 => rv_ Kv [] M4) Qt
     else
      V 0 [rr 1, none, none, none, none] [] M3)) Qt
def q42 (dq : Nat) (N : mm_) (G : mm_ → Prop) (Qt : qt_) : Prop := ∀ V : vv_, Cl_ wd0 (Tr_ wd0 pg0 (dq + 18)) V (rv_ G) Qt m_232 → Wk_ V → Tr_ wd0 pg0 (dq + 18) 242 [.inr (.inr 6), .inl 44] N (ri_ fun v5 M6 => V 2 [rr 6, ii v5, none, none] [] M6) Qt
section S1g
variable {dq : Nat} {b F F1 : Int} {ns nr np t : Int} {Kv G : mm_ → Prop} {Qt Qtq : qt_} {V V' : vv_} {M N : mm_} {a : Int}
theorem q42_s [Inhabited gh_] (hV : Cl_ wd0 (Tr_ wd0 pg0 (dq + 18)) V' (rv_ G) Qtq m_232) (hW : Wk_ V') (hs : sp_ N) (h : G N) : Tr_ wd0 pg0 (dq + 18) 242 [.inr (.inr 6), .inl 44] N (ri_ fun v5 M6 => V' 2 [rr 6, ii v5, none, none] [] M6) Qtq := q_242s hs (q32_s hV hW hs h)
theorem q238z [Inhabited gh_] {x : Int} (hs : sp_ N) (h : G N) : Tr_ wd0 pg0 (dq + 18) 238 [.inr (.inr 6), .inl x] N (rv_ G) Qtq := t_238 fun V hV hW => b_238_0 (Tr_mono _) hV hW _ _ (q_239s hs (q38_s hV hW hs h))
/-- from V 78 on -/
theorem y_s78 [Inhabited gh_] {idx a1 : Int} (hV : Cl_ wd0 (Tr_ wd0 pg0 130) V (rv_ Kv) Qt m_104) (hW : Wk_ V) (h : SY0 b F (SGM b M ns 0) N a) (h31 : M 1 31 = ns) (hns : 0 ≤ ns ∧ ns < M 5 0) (hidx : b = 0 → idx = ns) (hS : b = 1 → (if M 70 a = 240 then (SGL (M 70) (M 113) ns (a, 0)).bind fun r => if r.2 = M 112 ns then some r.1 else none else if M 112 ns = 0 then some a else none) ≠ none)
    (hK : ∀ Me Ne a3 c, SY0 b F Me Ne a3 → a ≤ a3 → (∀ r : Nat, r ≠ 1 → r ≠ 112 → r ≠ 113 → Me r = M r) → (∀ i : Int, i ≠ 3 → i ≠ 31 → Me 1 i = M 1 i) → Me 1 31 = ns + 1 → Me 112 ns = c → (∀ i, i ≠ ns → Me 112 i = M 112 i) → (∀ i, i < 3 * ns ∨ 3 * ns + 3 ≤ i → Me 113 i = M 113 i) → (∀ r : Nat, r ≠ 6 → r ≠ 156 → r ≠ 157 → Ne r = N r) → (∀ i : Int, i ≠ 12 → Ne 6 i = N 6 i) → (b = 1 → (∀ r : Nat, r ≠ 1 → Me r = M r) ∧ (∀ r : Nat, r ≠ 6 → Ne r = N r)) → (∀ gm, (b = 0 → ∀ i, 3 * ns ≤ i → i < 3 * ns + c → gm i = Me 113 i) → (b = 1 → gm = M 113) → (if M 70 a = 240 then (SGL (M 70) gm ns (a, 0)).bind fun r => if r.2 = c then some r.1 else none else if c = 0 then some a else none) = some a3) → (∀ (G : mm_ → Prop) (Qtq : qt_), q42 dq Ne G Qtq → q75 dq idx N G Qtq) → z117 V Kv Qt Me)
    (hQ : b = 0 → ∀ Mx', XPb M Mx' → (∀ (G : mm_ → Prop) (Qtq : qt_), (∀ M', SQp Mx' N M' → G M') → q75 dq idx N G Qtq) → Qt 8 Mx') :
    V 78 [rr 1, ii a1, none, none, none] [] M := by
  have s20 := h.2.1.1.1.1
  rw [SGM_r (by decide)] at s20
  have hs := up31 h (ns + 1)
  have hE := SGM_E hs.1.2.1
  have hT := SGM_T hs.1.1
  have ha := ER_a hE
  have h01 := bl01 hE
  have m12 : M 1 2 = 5 := by have := h.1.2.2; rw [SGM_r (by decide)] at this; exact this
  have u : ∀ r : Nat, r ≠ 1 → up_ M 1 31 (ns + 1) r = M r := fun r h => up_ne h
  have u1 : ∀ i : Int, i ≠ 31 → up_ M 1 31 (ns + 1) 1 i = M 1 i := fun i h => up_of2 h
  have u31 : up_ M 1 31 (ns + 1) 1 31 = ns + 1 := up_at
  have xp : XPb M (up_ M 1 31 (ns + 1)) := fun r hr => u r (fun e => hr (by rw [e]; decide))
  have Tq : Tks (up_ M 1 31 (ns + 1)) N := hT
  refine b_104_78 (Tr_mono _) hV hW _ _ ?_
  rw [h31, w32_id (x := ns + 1) (by (clear hV hW h h31 hidx hS hK hQ s20 hs hE hT ha h01 m12 u u1 xp Tq; omega)) (by omega)]
  generalize eS : up_ M 1 31 (ns + 1) = Ms at *
  have s70 : Ms 70 = M 70 := u 70 (by decide)
  refine y_117 hE (by decide) (fun k1 => ?_) (fun k1 => ?_)
  · rw [if_neg (by decide)]
    have k1' : M 70 a = 240 := by rw [← s70]; exact k1
    rw [if_pos k1'] at hS
    refine y_118 hE (fun _ => by decide) (fun _ _ => ?_) (fun _ e => absurd e (by decide))
    show V 108 [rr 1, ii a1, ii ns, ii 0, none] [] (o1_ Ms)
    have toQ0 : ∀ {G : mm_ → Prop} {Qtq : qt_}, (∀ V' : vv_, Cl_ wd0 (Tr_ wd0 pg0 (dq + 18)) V' (rv_ G) Qtq m_232 → Wk_ V' → ∀ V2 : vv_, Cl_ wd0 (Tr_ wd0 pg0 (dq + 17)) V2 (rv_ fun M7 => Tr_ wd0 pg0 (dq + 18) 242 [.inr (.inr 6), .inl 44] M7 (ri_ fun v6 M8 => V' 2 [rr 6, ii v6, none, none] [] M8) Qtq) Qtq m_238 → Wk_ V2 → Tr_ wd0 pg0 (dq + 17) 239 [.inr (.inr 6), .inl 40] N (rv_ fun M1 => V2 10 [rr 6, ii idx, ii 0, ii 1, none, none] [] M1) Qtq) → q75 dq idx N G Qtq := fun hq V' hV' hW' => j_237t hT hE (by decide) k1 (by
      rw [if_neg (by decide)]
      exact t_238 fun V2 hV2 hW2 => b_238_0 (Tr_mono _) hV2 hW2 _ _ (hq V' hV' hW' V2 hV2 hW2))
    by_cases h12 : a < 1200
    · have toQ : ∀ (G : mm_ → Prop) (Qtq : qt_), (∀ V' : vv_, Cl_ wd0 (Tr_ wd0 pg0 (dq + 18)) V' (rv_ G) Qtq m_232 → Wk_ V' → q38 dq idx 0 N (fun M7 => Tr_ wd0 pg0 (dq + 18) 242 [.inr (.inr 6), .inl 44] M7 (ri_ fun v6 M8 => V' 2 [rr 6, ii v6, none, none] [] M8) Qtq) Qtq) → q75 dq idx N G Qtq := fun G Qtq hq => toQ0 fun V' hV' hW' V2 hV2 hW2 => j_239t hT hE (by decide) k1 h12 (by decide) (by
        have := hq V' hV' hW' V2 hV2 hW2
        rw [← nx_q1] at this
        exact this)
      refine l_108 (dq := dq) (idx := idx) hV hW 1201 a 0 F Ms N (by (clear hV hW h h31 hns hidx hS hK hQ s20 h01 m12 eS hs hE hT u u1 u31 xp Tq s70 k1 k1' toQ0 toQ; omega)) hs h12 (.inl (by rw [s70]; exact k1')) (by decide) (by rw [u 5 (by decide)]; exact hns) hidx (fun hb => by rw [s70, u 113 (by decide)]; exact bind_n (hS hb)) (fun M' N' a' j' H' ha' hj' f' k' h44 sy hq => ?_) (fun hb Mx' hx' hq => ?_)
      · have hE' := SGM_E H'.1.2.1
        have oE' := ER_o1 hE'
        have oT' : Tks (o1_ M') (q1_ N') := Tks_a (XF_XA o1_XF) (QF_QA q1_QF) (SGM_T H'.1.1)
        rw [s70, u 113 (by decide)] at sy
        have r70 : M' 70 = M 70 := (f'.1 70 (by decide) (by decide)).trans s70
        have o70 : o1_ M' 70 = M 70 := by rw [o1_r (by decide)]; exact r70
        have syb : b = 1 → SGL (M 70) (M 113) ns (a, 0) = (tS (M 70) 241 a').bind fun a5 => some (a5, j' + 1) := fun hb => sy _ (fun hb0 => by omega) (fun _ => rfl)
        have toQ1 : ∀ {G : mm_ → Prop} {Qtq : qt_}, (∀ V' : vv_, Cl_ wd0 (Tr_ wd0 pg0 (dq + 18)) V' (rv_ G) Qtq m_232 → Wk_ V' → Tr_ wd0 pg0 (dq + 17) 243 [.inr (.inr 6), .inl 41] (q1_ N') (rv_ fun M7 => rv_ (fun M7 => Tr_ wd0 pg0 (dq + 18) 242 [.inr (.inr 6), .inl 44] M7 (ri_ fun v6 M8 => V' 2 [rr 6, ii v6, none, none] [] M8) Qtq) [] M7) Qtq) → q75 dq idx N G Qtq := fun hq1 => toQ _ _ fun V' hV' hW' => hq _ _ fun V2 hV2 hW2 => b_238_10 (Tr_mono _) hV2 hW2 _ _ _ _ (by rw [if_pos rfl]; exact hq1 V' hV' hW')
        refine y_121 oE' (by decide) (fun hb => by
          rw [o70]
          have := bind_n (hS hb)
          rw [syb hb] at this; exact bind_n this) (fun k2 h13 _ => ?_) (fun hb k2 h13 => ?_) (fun hb k2 => ?_)
        · have k2' : M 70 a' = 241 := by rw [← o70]; exact k2
          have hE1 := (ER_go hE' h13 (by rw [r70, k2']; decide)).1
          have H1 : SY0 b F (SGM b (nX_ M') ns (j' + 1)) (nx_ N') (a' + 1) := by
            have e := SGM_E' (ns := ns) (j := j' + 1) hE1
            rw [SGM_nX] at e ⊢
            exact SY_go H' e
          have cb : b = 1 → j' + 1 = nX_ M' 112 ns := fun hb => by
            have := hS hb
            rw [syb hb, tS_e k2' h13, Option.bind_some, Option.bind_some] at this
            rw [nX_ne (by decide), f'.1 112 (by decide) (by decide), u 112 (by decide)]
            by_cases c : j' + 1 = M 112 ns
            · exact c
            · exact absurd (if_neg c) this
          have xr : ∀ r : Nat, r ≠ 1 → r ≠ 112 → r ≠ 113 → SGM b (nX_ M') ns (j' + 1) r = M r := fun r e1 e2 e3 => by rw [SGM_r e2, nX_ne e1, f'.1 r e1 e3, u r e1]
          refine ⟨by rw [nX_1 (by decide), o1_1 (by decide), f'.2.2.1 2 (by decide), u1 2 (by decide)]; exact m12, by (clear hV hW h h31 hidx hS hK hQ ha h01 m12 eS hs hE hT u u1 xp Tq s70 k1 k1' toQ0 h12 toQ H' ha' hj' f' k' h44 sy hq hE' oE' oT' r70 o70 syb toQ1 k2 h13 k2' hE1 H1 cb xr; omega), ?_⟩
          rw [o1_c hE'.2.2.2.1, SGM_up cb h01]
          refine hK _ (nx_ N') (a' + 1) (j' + 1) H1 (by omega) xr (fun i h3 h31' => by rw [SGM_r (by decide), nX_1 h3, f'.2.2.1 i h3, u1 i h31']) (by rw [SGM_r (by decide), nX_1 (by decide), f'.2.2.1 31 (by decide)]; exact u31) ?_ (fun i hi => ?_) (fun i hi => by rw [SGM_r (by decide), nX_ne (by decide), f'.2.1 i hi, u 113 (by decide)]) (fun r e1 e2 e3 => by rw [nx_ne e1, f'.2.2.2.1 r e1 e2 e3]) (fun i hi => by rw [nx_6 hi, f'.2.2.2.2.1 i hi]) (fun hb => ⟨fun r e1 => ?_, fun r e1 => by rw [nx_ne e1, (f'.2.2.2.2.2 hb).2 r e1]⟩) (fun gm g0 g1 => ?_) (fun G Qtq hg => toQ1 fun V' hV' hW' => j_243t oT' oE' (by decide) k2 h13 (by decide) (by
            rw [q1_c hE'.2.2.2.2.1]
            exact rv_i (hg V' hV' hW')))
          · rw [← SGM_up cb h01, up_at]
          · rw [← SGM_up cb h01, up_of2 hi, nX_ne (by decide), f'.1 112 (by decide) (by decide), u 112 (by decide)]
          · unfold SGM; rw [if_neg (by (clear hV hW h h31 hns hidx hS hK hQ s20 ha h01 m12 eS hs hE hT u u1 u31 xp Tq s70 k1 k1' toQ0 h12 toQ H' ha' hj' f' k' h44 sy hq hE' oE' oT' r70 o70 syb toQ1 k2 h13 k2' hE1 H1 cb xr e1; lia)), nX_ne e1, (f'.2.2.2.2.2 hb).1 r e1, u r e1]
          · rw [if_pos k1', sy gm (fun hb i i0 i1 => by rw [g0 hb i i0 i1, SGM_r (by decide), nX_ne (by decide)]) g1, tS_e k2' h13, Option.bind_some, Option.bind_some]
            exact if_pos rfl
        · have hsp := SQ_bf oE' hb (k := 2) (by decide) QA_rf
          exact hQ hb _ (XPb_tr xp (XPb_tr (XPb_tr (SGF_X f') XPb_o1) XPb_fl)) (fun G Qtq hg => toQ1 fun V' hV' hW' => j_243r oT' oE' hb (by decide) k2 h13 (rv_i (q42_s hV' hW' hsp.1 (hg _ (SQp_tr (QPb_tr (SGF_Q f') QPb_q1) (SQ_P hsp))))))
        · have hsp := SQ_bf oE' hb (k := 1) (by decide) QA_rf
          exact hQ hb _ (XPb_tr xp (XPb_tr (XPb_tr (SGF_X f') XPb_o1) XPb_fl)) (fun G Qtq hg => toQ1 fun V' hV' hW' => j_243w oT' oE' hb (by decide) k2 (rv_i (q42_s hV' hW' hsp.1 (hg _ (SQp_tr (QPb_tr (SGF_Q f') QPb_q1) (SQ_P hsp))))))
      · exact hQ hb Mx' (XPb_tr xp hx') (fun G Qtq hg => toQ G Qtq fun V' hV' hW' => hq _ _ fun M9 p => q42_s hV' hW' p.1 (hg _ p))
    · rcases h01 with hb | hb
      · have oE := ER_o1 hE
        refine b_104_108 (Tr_mono _) hV hW _ _ _ _ ?_
        refine y_105 oE (by rw [o1_r (by decide), s70, k1']; decide) (fun hb1 => by (clear hV hW h h31 hns hidx hS hK hQ s20 ha m12 eS hs hE hT u u1 u31 xp Tq s70 k1 k1' toQ0 h12 oE; lia)) (fun h16 _ => by omega) (fun _ h16 => ?_)
        have hsp := SQ_bf oE hb (k := 2) (by decide) QA_rf
        exact hQ hb _ (XPb_tr xp (XPb_tr XPb_o1 XPb_fl)) (fun G Qtq hg => toQ0 fun V' hV' hW' V2 hV2 hW2 => j_239r hT hE hb (by decide) k1 h16 (by decide) (q38_s hV2 hW2 hsp.1 (q42_s hV' hW' hsp.1 (hg _ (SQp_tr QPb_q1 (SQ_P hsp))))))
      · exact absurd (SGL_g ha.1 ha.2 (bind_n (hS hb))) h12
  · rw [if_pos rfl]
    have k1' : M 70 a ≠ 240 := by rw [← s70]; exact k1
    rw [if_neg k1'] at hS
    have cb : b = 1 → 0 = Ms 112 ns := fun hb => by
      have := hS hb
      rw [u 112 (by decide)]
      by_cases c : M 112 ns = 0
      · exact c.symm
      · exact absurd (if_neg c) this
    refine ⟨by rw [u1 2 (by decide)]; exact m12, by (clear hV hW h h31 hidx hS hK hQ ha h01 m12 eS hs hE hT u u1 xp Tq s70 k1 k1' cb; lia), ?_⟩
    rw [SGM_up cb h01]
    refine hK _ N a 0 hs (Int.le_refl _) (fun r e1 e2 e3 => by rw [SGM_r e2, u r e1]) (fun i _ h31' => by rw [SGM_r (by decide), u1 i h31']) (by rw [SGM_r (by decide)]; exact u31) (by rw [← SGM_up cb h01, up_at]) (fun i hi => by rw [← SGM_up cb h01, up_of2 hi, u 112 (by decide)]) (fun i _ => by rw [SGM_r (by decide), u 113 (by decide)]) (fun _ _ _ _ => rfl) (fun _ _ => rfl) (fun hb => ⟨fun r e1 => by unfold SGM; rw [if_neg (by omega), u r e1], fun _ _ => rfl⟩) (fun gm _ _ => by rw [if_neg k1']; exact if_pos rfl) (fun G Qtq hg V' hV' hW' => j_237f hT hE (by decide) k1 (by rw [if_pos rfl]; exact hg V' hV' hW'))
end S1g
end T274_s1
section T275_s2
/-! one signal, from SYS to SYS -/
def SGR (b : Int) (M N M1 N1 : mm_) : Prop := ((∀ k : Nat, k ∉ [1, 5, 56, 112, 113] → M1 k = M k) ∧ (∀ i : Int, i ≠ 0 → M1 5 i = M 5 i) ∧ (∀ i : Int, i ∉ [3, 4, 5, 7, 31] → M1 1 i = M 1 i)) ∧ (∀ k : Nat, k ∉ [6, 152, 155, 156, 157, 190, 191] → N1 k = N k) ∧ (∀ i : Int, i ∉ [12, 13, 14, 17, 58] → N1 6 i = N 6 i) ∧ (b = 1 → (∀ k : Nat, k ≠ 6 → N1 k = N k) ∧ (∀ i : Int, i ∉ [12, 13, 14] → N1 6 i = N 6 i) ∧ (N1 6 13 = 0 → N 6 13 = 0))
section S2g
variable {dq : Nat} {b F F1 : Int} {ns nr np t : Int} {Kv G : mm_ → Prop} {Qt Qtq : qt_} {V V' : vv_} {M N : mm_} {a : Int}
theorem SGR_tr [Inhabited gh_] {M1 N1 M2 N2 : mm_} (h : SGR b M N M1 N1) (g : SGR b M1 N1 M2 N2) : SGR b M N M2 N2 := ⟨⟨fun k hk => (g.1.1 k hk).trans (h.1.1 k hk), fun i hi => (g.1.2.1 i hi).trans (h.1.2.1 i hi), fun i hi => (g.1.2.2 i hi).trans (h.1.2.2 i hi)⟩, fun k hk => (g.2.1 k hk).trans (h.2.1 k hk), fun i hi => (g.2.2.1 i hi).trans (h.2.2.1 i hi), fun hb => ⟨fun k hk => ((g.2.2.2 hb).1 k hk).trans ((h.2.2.2 hb).1 k hk), fun i hi => ((g.2.2.2 hb).2.1 i hi).trans ((h.2.2.2 hb).2.1 i hi), fun hz => (h.2.2.2 hb).2.2 ((g.2.2.2 hb).2.2 hz)⟩⟩
theorem SGR_go [Inhabited gh_] : SGR b M N (nX_ M) (nx_ N) := ⟨⟨fun k hk => nX_ne (fun e => hk (by rw [e]; decide)), fun i _ => by rw [nX_ne (by decide)], fun i hi => nX_1 (nm_i hi (by decide))⟩, fun k hk => nx_ne (fun e => hk (by rw [e]; decide)), fun i hi => nx_6 (nm_i hi (by decide)), fun _ => ⟨fun k hk => nx_ne hk, fun i hi => nx_6 (nm_i hi (by decide)), fun hz => by rw [nx_6 (by decide)] at hz; exact hz⟩⟩
theorem SGR_Q [Inhabited gh_] {M1 N1 : mm_} (h : SGR b M N M1 N1) : QPb N N1 := ⟨fun k hk => h.2.1 k (fun e => hk (by simp only [List.mem_cons, List.not_mem_nil, or_false] at e; unfold QPRr; omega)), fun i hi => h.2.2.1 i (fun e => hi (by simp only [qpI, List.mem_cons, List.not_mem_nil, or_false] at e ⊢; (clear h hi; lia)))⟩
theorem y_sgw [Inhabited gh_] (hV : Cl_ wd0 (Tr_ wd0 pg0 130) V (rv_ Kv) Qt m_104) (hW : Wk_ V) (h : SYS b F M N a ns nr np) (hkd : M 70 a ≠ 102 ∧ M 70 a ≠ 103) (h12 : a < 1200) (hS : b = 1 → sgnS (M 70) (M 113) (M 112 ns) (TSG M ns) ns a ≠ none)
    (hK : ∀ F' Me Ne a3, SYS b F' Me Ne a3 (ns + 1) nr np → a + 2 ≤ a3 → XPb M Me → SGR b M N Me Ne → Me 70 = M 70 → ((∀ i, i < ns → Me 112 i = M 112 i ∧ Me 56 i = M 56 i) ∧ ∀ i, i < 3 * ns → Me 113 i = M 113 i) → (b = 1 → ∀ r : Nat, r ≠ 1 → Me r = M r) → (F' ≤ F ∧ (b = 1 → F' = F) ∧ GNO b F F' M N Ne (a + 1)) → (Me 56 ns = a + 1 ∧ ns < Me 5 0) → (∀ gm cm tm, tm (a + 1) = true → (b = 0 → cm = Me 112 ns ∧ ∀ i, 3 * ns ≤ i → i < 3 * ns + cm → gm i = Me 113 i) → (b = 1 → gm = M 113 ∧ cm = M 112 ns) → sgnS (M 70) gm cm tm ns a = some a3) → (∀ (G : mm_ → Prop) (Qtq : qt_), q42 dq Ne G Qtq → q32 dq N G Qtq) → z117 V Kv Qt Me)
    (hQ : b = 0 → ∀ Mx', XPb M Mx' → (∀ (G : mm_ → Prop) (Qtq : qt_), (∀ M', SQp Mx' N M' → G M') → q32 dq N G Qtq) → Qt 8 Mx') :
    V 0 [rr 1, none, none, none, none] [] M := by
  have h01 := bl01 h.1.1.2.1
  have hns := h.2.1.2.1.1
  refine y_snm (dq := dq) hV hW h hkd (fun hb => bind_n (hS hb)) h12 (fun F1 Mz Nz idx Z z0 z1 k56 k50 fF sy hq => ?_) hQ
  have nX2 : ∀ r : Nat, r ≠ 1 → nX_ (nX_ M) r = M r := fun r h => by rw [nX_ne h, nX_ne h]
  have e50 : b = 0 → gd1_ (nX_ (nX_ M)) (nx_ (nx_ N)) (a + 1) 5 0 = ns := fun hb => by rw [gd1_r (by decide), nX2 5 (by decide)]; exact (h.2.1.2.2 hb).1
  have xr : ∀ r : Nat, r ≠ 1 → r ≠ 5 → r ≠ 56 → Mz r = M r := fun r e1 e5 e6 => by
    rcases h01 with hb | hb
    · rw [(z0 hb).2.1, sx1_r e5 e6, gd1_r e1, nX2 r e1]
    · rw [(z1 hb).1, nX2 r e1]
  have x5 : ∀ i : Int, i ≠ 0 → Mz 5 i = M 5 i := fun i hi => by
    rcases h01 with hb | hb
    · rw [(z0 hb).2.1, sx1_5 hi, gd1_r (by decide), nX2 5 (by decide)]
    · rw [(z1 hb).1, nX2 5 (by decide)]
  have x1 : ∀ i : Int, i ≠ 3 → i ≠ 4 → i ≠ 5 → i ≠ 7 → Mz 1 i = M 1 i := fun i h3 h4 h5 h7 => by
    rcases h01 with hb | hb
    · rw [(z0 hb).2.1, sx1_r (by decide) (by decide), gd1_1 h4 h5 h7, nX_1 h3, nX_1 h3]
    · rw [(z1 hb).1, nX_1 h3, nX_1 h3]
  have x56 : ∀ i, i < ns → Mz 56 i = M 56 i := fun i hi => by
    rcases h01 with hb | hb
    · rw [(z0 hb).2.1, sx1_o (by rw [e50 hb]; (clear hV hW h hkd h12 hS hK hQ hns Z z0 z1 k56 k50 fF sy hq nX2 e50 xr x5 x1 hb; lia)), gd1_r (by decide), nX2 56 (by decide)]
    · rw [(z1 hb).1, nX2 56 (by decide)]
  have qr : ∀ r : Nat, r ≠ 6 → r ≠ 152 → r ≠ 155 → r ≠ 156 → r ≠ 190 → r ≠ 191 → Nz r = N r := fun r a1 a2 a3 a4 a5 a6 => by
    rcases h01 with hb | hb
    · rw [(z0 hb).2.2, sq_r (by simp only [List.mem_cons, List.not_mem_nil, or_false]; (clear hV hW h hkd h12 hS hK hQ hns Z z0 z1 k56 k50 fF sy hq nX2 e50 xr x5 x1 x56 hb; lia)), gq_r a1 a5 a6, nx_ne a1, nx_ne a1]
    · rw [GWI_r (z1 hb).2 a1, nx_ne a1, nx_ne a1]
  have q6 : ∀ i : Int, i ≠ 12 → i ≠ 13 → i ≠ 14 → i ≠ 17 → i ≠ 58 → Nz 6 i = N 6 i := fun i a1 a2 a3 a4 a5 => by
    rcases h01 with hb | hb
    · rw [(z0 hb).2.2, sq_6 a4, gq_6 a5, nx_6 a1, nx_6 a1]
    · rw [GWI_6 (z1 hb).2 a2 a3, nx_6 a1, nx_6 a1]
  have z70 : Mz 70 = M 70 := xr 70 (by decide) (by decide) (by decide)
  have xp : XPb M Mz := fun r hr => xr r (fun e => hr (by rw [e]; decide)) (fun e => hr (by rw [e]; decide)) (fun e => hr (by rw [e]; decide))
  have qp : QPb N Nz := ⟨fun r hr => qr r (fun e => hr (by unfold QPRr; (clear hV hW h hkd h12 hS hK hQ h01 hns Z z0 z1 k56 k50 fF sy hq nX2 e50 xr x5 x1 x56 qr q6 z70 xp hr; lia))) (fun e => hr (by unfold QPRr; omega)) (fun e => hr (by unfold QPRr; (clear hV hW h hkd h12 hS hK hQ h01 hns Z z0 z1 k56 k50 fF sy hq nX2 e50 xr x5 x1 x56 qr q6 z70 xp hr; lia))) (fun e => hr (by unfold QPRr; (clear hV hW h hkd h12 hS hK hQ h01 hns Z z0 z1 k56 k50 fF sy hq nX2 e50 xr x5 x1 x56 qr q6 z70 xp hr; lia))) (fun e => hr (by unfold QPRr; (clear hV hW h hkd h12 hS hK hQ h01 hns Z z0 z1 k56 k50 fF sy hq nX2 e50 xr x5 x1 x56 qr q6 z70 xp hr; omega))) (fun e => hr (by unfold QPRr; (clear hV hW h hkd h12 hS hK hQ h01 hns Z z0 z1 k56 k50 fF sy hq nX2 e50 xr x5 x1 x56 qr q6 z70 xp hr; lia))), fun i hi => q6 i (nm_i hi (by decide)) (nm_i hi (by decide)) (nm_i hi (by decide)) (nm_i hi (by decide)) (nm_i hi (by decide))⟩
  have k113 : Mz 113 = M 113 := xr 113 (by decide) (by decide) (by decide)
  have k112 : Mz 112 = M 112 := xr 112 (by decide) (by decide) (by decide)
  have syb : b = 1 → snS (M 70) (TSG M ns) a = some (a + 2) := fun hb => sy _ (by
    unfold TSG
    refine decide_eq_true ⟨?_, ?_⟩
    · rw [(z1 hb).1, nX2 5 (by decide)] at k50; exact k50
    · rw [(z1 hb).1, nX2 56 (by decide)] at k56; exact k56)
  refine y_s78 (dq := dq) (idx := idx) hV hW Z (by rw [x1 31 (by decide) (by decide) (by decide) (by decide)]; exact h.2.1.1.1) ⟨hns, k50⟩ (fun hb => (z0 hb).1) (fun hb => ?_) (fun Me Ne a3 c Y ha3 yr y1 y31 yc y112 y113 yq y6 yb sy2 hq2 => ?_) (fun hb Mx' hx' hq' => ?_)
  · have := hS hb
    unfold sgnS at this
    rw [syb hb, Option.bind_some] at this
    rw [z70, k113, k112]; exact this
  · have me : ∀ r : Nat, r ≠ 1 → r ≠ 5 → r ≠ 56 → r ≠ 112 → r ≠ 113 → Me r = M r := fun r a1 a2 a3 a4 a5 => by rw [yr r a1 a4 a5, xr r a1 a2 a3]
    have m5 : Me 5 = Mz 5 := yr 5 (by decide) (by decide) (by decide)
    have m56 : Me 56 = Mz 56 := yr 56 (by decide) (by decide) (by decide)
    have S3 : SYS b F1 Me Ne a3 (ns + 1) nr np := SYS_sg h Y ⟨y31, by rw [y1 32 (by decide) (by decide), x1 32 (by decide) (by decide) (by decide) (by decide)], by rw [y1 33 (by decide) (by decide), x1 33 (by decide) (by decide) (by decide) (by decide)]⟩ (fun hb => ⟨by rw [m5, (z0 hb).2.1, sx1_k.1, e50 hb], by rw [m5, x5 1 (by decide)]⟩) (by rw [m5, x5 2 (by decide)]) (fun r hr => by
      simp only [rwX, List.mem_cons, List.not_mem_nil, or_false] at hr
      exact me r (by (clear hV hW h hkd h12 hS hK hQ h01 hns Z z0 z1 k56 k50 fF sy hq nX2 e50 xr x5 x1 x56 qr q6 z70 xp qp k113 k112 syb Y ha3 yr y1 y31 yc y112 y113 yq y6 yb sy2 hq2 me m5 m56; omega)) (by (clear hV hW h hkd h12 hS hK hQ h01 hns Z z0 z1 k56 k50 fF sy hq nX2 e50 xr x5 x1 x56 qr q6 z70 xp qp k113 k112 syb Y ha3 yr y1 y31 yc y112 y113 yq y6 yb sy2 hq2 me m5 m56; omega)) (by (clear hV hW h hkd h12 hS hK hQ h01 hns Z z0 z1 k56 k50 fF sy hq nX2 e50 xr x5 x1 x56 qr q6 z70 xp qp k113 k112 syb Y ha3 yr y1 y31 yc y112 y113 yq y6 yb sy2 hq2 me m5 m56; omega)) (by (clear hV hW h hkd h12 hS hK hQ h01 hns Z z0 z1 k56 k50 fF sy hq nX2 e50 xr x5 x1 x56 qr q6 z70 xp qp k113 k112 syb Y ha3 yr y1 y31 yc y112 y113 yq y6 yb sy2 hq2 me m5 m56; omega)) (by omega)) (fun r hr => by
      simp only [rwQ, List.mem_cons, List.not_mem_nil, or_false] at hr
      rw [yq r (by omega) (by omega) (by (clear hV hW h hkd h12 hS hK hQ h01 hns Z z0 z1 k56 k50 fF sy hq nX2 e50 xr x5 x1 x56 qr q6 z70 xp qp k113 k112 syb Y ha3 yr y1 y31 yc y112 y113 yq y6 yb sy2 hq2 me m5 m56; omega)), qr r (by omega) (by (clear hV hW h hkd h12 hS hK hQ h01 hns Z z0 z1 k56 k50 fF sy hq nX2 e50 xr x5 x1 x56 qr q6 z70 xp qp k113 k112 syb Y ha3 yr y1 y31 yc y112 y113 yq y6 yb sy2 hq2 me m5 m56; omega)) (by (clear hV hW h hkd h12 hS hK hQ h01 hns Z z0 z1 k56 k50 fF sy hq nX2 e50 xr x5 x1 x56 qr q6 z70 xp qp k113 k112 syb Y ha3 yr y1 y31 yc y112 y113 yq y6 yb sy2 hq2 me m5 m56; omega)) (by omega) (by omega) (by (clear hV hW h hkd h12 hS hK hQ h01 hns Z z0 z1 k56 k50 fF sy hq nX2 e50 xr x5 x1 x56 qr q6 z70 xp qp k113 k112 syb Y ha3 yr y1 y31 yc y112 y113 yq y6 yb sy2 hq2 me m5 m56; omega))])
    refine hK F1 Me Ne a3 S3 (by omega) (XPb_tr xp (fun r hr => yr r (fun e => hr (by rw [e]; decide)) (fun e => hr (by rw [e]; decide)) (fun e => hr (by rw [e]; decide)))) ⟨⟨fun k hk => me k (fun e => hk (by rw [e]; decide)) (fun e => hk (by rw [e]; decide)) (fun e => hk (by rw [e]; decide)) (fun e => hk (by rw [e]; decide)) (fun e => hk (by rw [e]; decide)), fun i hi => by rw [m5, x5 i hi], fun i hi => by rw [y1 i (nm_i hi (by decide)) (nm_i hi (by decide)), x1 i (nm_i hi (by decide)) (nm_i hi (by decide)) (nm_i hi (by decide)) (nm_i hi (by decide))]⟩, fun k hk => by rw [yq k (fun e => hk (by rw [e]; decide)) (fun e => hk (by rw [e]; decide)) (fun e => hk (by rw [e]; decide)), qr k (fun e => hk (by rw [e]; decide)) (fun e => hk (by rw [e]; decide)) (fun e => hk (by rw [e]; decide)) (fun e => hk (by rw [e]; decide)) (fun e => hk (by rw [e]; decide)) (fun e => hk (by rw [e]; decide))], fun i hi => by rw [y6 i (nm_i hi (by decide)), q6 i (nm_i hi (by decide)) (nm_i hi (by decide)) (nm_i hi (by decide)) (nm_i hi (by decide)) (nm_i hi (by decide))], fun hb => by
      have P1 : PZ 1 F F M N (nX_ (nX_ M)) Nz 0 := PZ_1 (z1 hb).2
      exact ⟨fun k hk => by rw [(yb hb).2 k hk, GWI_r (z1 hb).2 hk, nx_ne hk, nx_ne hk], fun i hi => by rw [y6 i (nm_i hi (by decide)), GWI_6 (z1 hb).2 (nm_i hi (by decide)) (nm_i hi (by decide)), nx_6 (nm_i hi (by decide)), nx_6 (nm_i hi (by decide))], fun hz => by rw [y6 13 (by decide)] at hz; exact (P1.2.2.1 rfl).2.2.2 hz⟩⟩ (me 70 (by decide) (by decide) (by decide) (by decide) (by decide)) ⟨fun i hi => ⟨by rw [y112 i (by (clear hV hW h hkd h12 hS hK hQ h01 hns Z z0 z1 k56 k50 fF sy hq nX2 e50 xr x5 x1 x56 qr q6 z70 xp qp k113 k112 syb Y ha3 yr y1 yc y112 y113 yq y6 yb sy2 hq2 me m5 m56 S3; omega)), k112], by rw [m56, x56 i hi]⟩, fun i hi => by rw [y113 i (.inl hi), k113]⟩ (fun hb r e1 => by rw [(yb hb).1 r e1, (z1 hb).1, nX2 r e1]) ⟨fF.1, fF.2.1, GNO_le fF.2.2 fun _ => by rw [y6 13 (by decide), y6 14 (by decide)]; exact Int.le_refl _⟩ ⟨by rw [m56]; exact k56, by rw [m5]; exact k50⟩ (fun gm cm tm ht g0 g1 => ?_) (fun G Qtq hg => hq G Qtq (hq2 G Qtq hg))
    have cc : cm = c := by
      rcases h01 with hb | hb
      · rw [(g0 hb).1]; exact yc
      · rw [(g1 hb).2, ← yc, (yb hb).1 112 (by decide), k112]
    rw [z70, k113] at sy2
    have e2 := sy2 gm (fun hb i i0 i1 => (g0 hb).2 i i0 (by (clear hV hW h hkd h12 hS hK hQ h01 hns Z z0 z1 k56 k50 fF sy hq nX2 e50 xr x5 x1 x56 qr q6 z70 xp qp k113 k112 syb Y ha3 yr y1 yc y112 y113 yq y6 yb sy2 hq2 me m5 m56 S3 ht g0 g1 hb i0; omega))) (fun hb => (g1 hb).1)
    unfold sgnS
    rw [sy tm ht, Option.bind_some, cc]; exact e2
  · exact hQ hb Mx' (XPb_tr xp hx') (fun G Qtq hg => hq G Qtq (hq' G Qtq fun M9 p => hg _ (SQp_tr qp p)))
end S2g
end T275_s2
section T276_s3
/-! the signals of a line (X 104 | Q 232) -/
def sgsT (κ gm cms : Int → Int) (tms : Int → Int → Bool) (s : sj_) : Option (sj_ ⊕ sj_) := (sgnS κ gm (cms s.2) (tms s.2) s.2 s.1).bind fun a3 => if κ a3 = 244 then some (.inl (a3, s.2 + 1)) else (tS κ 259 a3).bind fun a4 => some (.inr (a4, s.2 + 1))
def SGS (κ gm cms : Int → Int) (tms : Int → Int → Bool) (s : sj_) : Option sj_ := LQ (sgsT κ gm cms tms) s
def SGO (b : Int) (gm cms : Int → Int) (tms : Int → Int → Bool) (ns ns' : Int) (M Me : mm_) : Prop := (b = 0 → ∀ k, ns ≤ k → k < ns' → cms k = Me 112 k ∧ tms k (Me 56 k) = true ∧ ∀ i, 3 * k ≤ i → i < 3 * k + cms k → gm i = Me 113 i) ∧ (b = 1 → gm = M 113 ∧ cms = M 112 ∧ tms = TSG M)
section S3g
variable {κ gm cms : Int → Int} {tms : Int → Int → Bool} {ns a : Int}
theorem SGL_s [Inhabited gh_] {s r : sj_} (h0 : 0 ≤ s.1) (h1 : s.1 ≤ 1200) (h : SGL κ gm ns s = some r) : s.1 ≤ r.1 ∧ r.1 ≤ 1200 := by
  exact lqS_r (step := sgT κ gm ns) (fun s => s.1) (fun s => s.1) (fun s s' => sgT_l s s') (fun s a h0 h1 h => by
    unfold sgT at h
    obtain ⟨y1, e1, h⟩ := bind_s h
    have g1 := gS_s e1
    split at h
    · cases h
    · obtain ⟨y2, e2, h⟩ := bind_s h
      unfold srS at e2
      split at e2
      · have g2 := gS_s e2
        split at h
        · split at h
          · injection h with h; cases h
          · obtain ⟨y3, e3, h⟩ := bind_s h
            have g3 := tS_s e3
            injection h with h; injection h with h; rw [← h]; show s.1 ≤ y3 ∧ y3 ≤ 1200; omega
        · cases h
      · cases e2) 1300 s r h0 h1 h
theorem sgnS_s [Inhabited gh_] {cm : Int} {tm : Int → Bool} {r : Int} (h0 : 0 ≤ a) (h1 : a ≤ 1200) (h : sgnS κ gm cm tm ns a = some r) : a + 2 ≤ r ∧ r ≤ 1200 := by
  unfold sgnS at h
  obtain ⟨x, e, h⟩ := bind_s h
  have g : a + 2 ≤ x ∧ x ≤ 1200 := by
    unfold snS at e
    obtain ⟨y, e1, e⟩ := bind_s e
    have g1 := gS_s e1
    obtain ⟨z, e2, e⟩ := bind_s e
    have g2 := tS_s e2
    split at e
    · injection e with e; omega
    · cases e
  split at h
  · obtain ⟨y, e1, h⟩ := bind_s h
    have g1 := SGL_s (s := (x, 0)) (show (0 : Int) ≤ x by omega) (show x ≤ 1200 by omega) e1
    have g1' : x ≤ y.1 ∧ y.1 ≤ 1200 := g1
    split at h
    · injection h with h; omega
    · cases h
  · split at h
    · injection h with h; (clear h0 h1 e; omega)
    · cases h
theorem sgsT_l [Inhabited gh_] (s s' : sj_) (h0 : 0 ≤ s.1) (h1 : s.1 ≤ 1200) (h : sgsT κ gm cms tms s = some (.inl s')) : s.1 + 1 ≤ s'.1 ∧ s'.1 ≤ 1200 := by
  unfold sgsT at h
  obtain ⟨x, e, h⟩ := bind_s h
  have g := sgnS_s h0 h1 e
  split at h
  · injection h with h; injection h with h; rw [← h]; show s.1 + 1 ≤ x ∧ x ≤ 1200; omega
  · obtain ⟨y, e2, h⟩ := bind_s h
    injection h with h; cases h
theorem SGS_u [Inhabited gh_] (h0 : 0 ≤ a) (h1 : a ≤ 1200) : SGS κ gm cms tms (a, ns) = (sgsT κ gm cms tms (a, ns)).bind (lk9 (SGS κ gm cms tms)) := LQ_u (step := sgsT κ gm cms tms) (fun s => s.1) (fun s s' => sgsT_l s s') (s := (a, ns)) h0 h1
theorem sgsT_y [Inhabited gh_] {L : sj_ → Option sj_} {X : Option Int} (hX : sgnS κ gm (cms ns) (tms ns) ns a = X) : (sgsT κ gm cms tms (a, ns)).bind (lk9 L) = X.bind fun a3 => if κ a3 = 244 then L (a3, ns + 1) else (tS κ 259 a3).bind fun a4 => some (a4, ns + 1) := by
  unfold sgsT
  show ((sgnS κ gm (cms ns) (tms ns) ns a).bind _).bind _ = _
  rw [hX]
  cases X with
  | none => rfl
  | some x =>
    rw [Option.bind_some, Option.bind_some]
    by_cases c : κ x = 244
    · rw [if_pos c, if_pos c]; rfl
    · rw [if_neg c, if_neg c]
      cases tS κ 259 x with
      | none => rfl
      | some y => rfl
theorem SGS_e [Inhabited gh_] (h0 : 0 ≤ a) (h1 : a ≤ 1200) : SGS κ gm cms tms (a, ns) = (sgnS κ gm (cms ns) (tms ns) ns a).bind fun a3 => if κ a3 = 244 then SGS κ gm cms tms (a3, ns + 1) else (tS κ 259 a3).bind fun a4 => some (a4, ns + 1) := (SGS_u h0 h1).trans (sgsT_y rfl)
end S3g
end T276_s3
section T277_s4
/-! the signals of a line: the loop (X 104 | Q 232) -/
def GDU (M N : mm_) (f : Int) : Prop := ∃ u v, (GLM M u ∧ GLM M v ∧ u < v) ∧ N 151 u = N 151 v ∧ f = 8 * M 71 v + 3
/-- told twice: what a line of signals says -/
def SGN (b F F' : Int) (M N M' N' : mm_) (ns ns' : Int) : Prop := (b = 0 → F' = F ∨ GDU M' N' F') ∧ (b = 1 → kk_ (N' 6 13) (N' 6 14) ≤ kk_ (N 6 13) (N 6 14) ∧ ∀ k, ns ≤ k → k < ns' → TDW M N (M 56 k) → kk_ (N' 6 13) (N' 6 14) ≤ 8 * M 71 (M 56 k) + 3)
theorem GDU_c [Inhabited gh_] {M N M1 N1 : mm_} {f : Int} (h : GDU M N f) (hg : ∀ u, GLM M u → GLM M1 u) (h71 : M1 71 = M 71) (h151 : N1 151 = N 151) : GDU M1 N1 f := by
  obtain ⟨u, v, ⟨a1, a2, a3⟩, a4, a5⟩ := h
  exact ⟨u, v, ⟨hg u a1, hg v a2, a3⟩, by rw [h151]; exact a4, by rw [h71]; exact a5⟩
theorem TDW_c [Inhabited gh_] {M N M1 N1 : mm_} {t : Int} (hx : ∀ r : Nat, r ∈ [5, 56, 57, 58] → M1 r = M r) (h151 : N1 151 = N 151) : TDW M1 N1 t ↔ TDW M N t := by
  unfold TDW GLM
  rw [hx 5 (by decide), hx 56 (by decide), hx 57 (by decide), hx 58 (by decide), h151]
theorem GLM_sg [Inhabited gh_] {b ns : Int} {M N M1 N1 : mm_} (g : SGR b M N M1 N1) (h56 : ∀ i, i < ns → M1 56 i = M 56 i) (h0 : M 5 0 = ns) (h1 : ns ≤ M1 5 0) {u : Int} (h : GLM M u) : GLM M1 u := by
  rcases h with ⟨k, hk, e⟩ | ⟨k, hk, e⟩ | ⟨k, hk, e⟩
  · exact .inl ⟨k, by omega, by rw [h56 k (by omega)]; exact e⟩
  · exact .inr (.inl ⟨k, by rw [g.1.2.1 1 (by decide)]; exact hk, by rw [g.1.1 57 (by decide)]; exact e⟩)
  · exact .inr (.inr ⟨k, by rw [g.1.2.1 2 (by decide)]; exact hk, by rw [g.1.1 58 (by decide)]; exact e⟩)
theorem SGN_1 [Inhabited gh_] {b F F1 a ns nr np : Int} {M N Me Ne : mm_} (h : SYS b F M N a ns nr np) (gn : GNO b F F1 M N Ne (a + 1)) (k56 : Me 56 ns = a + 1 ∧ ns < Me 5 0) (g : SGR b M N Me Ne) (rw3 : ∀ i, i < ns → Me 56 i = M 56 i) (rb : b = 1 → ∀ r : Nat, r ≠ 1 → Me r = M r) : SGN b F F1 M N Me Ne ns (ns + 1) := by
  have hns := h.2.1.2.1.1
  refine ⟨fun hb => ?_, fun hb => ⟨(gn.2 hb).1, fun k k0 k1 hk => ?_⟩⟩
  · rcases gn.1 hb with z | ⟨⟨u, hu, he⟩, z⟩
    · exact .inl z
    · have lt := h.1.2.2.2.1.2 hb u hu
      refine .inr ⟨u, a + 1, ⟨GLM_sg g rw3 (h.2.1.2.2 hb).1 (by omega) hu, .inl ⟨ns, ⟨hns, k56.2⟩, k56.1⟩, by omega⟩, by rw [g.2.1 151 (by decide)]; exact he, by rw [g.1.1 71 (by decide)]; exact z⟩
  · have e : k = ns := by omega
    have k5 := k56.1
    rw [rb hb 56 (by decide)] at k5
    rw [e, k5] at hk ⊢
    exact (gn.2 hb).2 hk
theorem SGN_tr [Inhabited gh_] {b F F1 F2 n0 n1 n2 : Int} {M N M1 N1 M2 N2 : mm_} (s1 : SGN b F F1 M N M1 N1 n0 n1) (s2 : SGN b F1 F2 M1 N1 M2 N2 n1 n2) (gl : b = 0 → ∀ u, GLM M1 u → GLM M2 u) (g : SGR b M N M1 N1) (g2 : SGR b M1 N1 M2 N2) (rb : b = 1 → ∀ r : Nat, r ≠ 1 → M1 r = M r) : SGN b F F2 M N M2 N2 n0 n2 := by
  refine ⟨fun hb => ?_, fun hb => ⟨Int.le_trans (s2.2 hb).1 (s1.2 hb).1, fun k k0 k1 hk => ?_⟩⟩
  · rcases s2.1 hb with z | z
    · rcases s1.1 hb with y | y
      · exact .inl (z.trans y)
      · right; rw [z]; exact GDU_c y (gl hb) (g2.1.1 71 (by decide)) (g2.2.1 151 (by decide))
    · exact .inr z
  · by_cases c : k < n1
    · exact Int.le_trans (s2.2 hb).1 ((s1.2 hb).2 k k0 c hk)
    · have r := rb hb
      have := (s2.2 hb).2 k (by omega) k1 (by
        rw [r 56 (by decide), TDW_c (fun x hx => r x (fun e => by rw [e] at hx; revert hx; decide)) (g.2.1 151 (by decide))]; exact hk)
      rw [r 56 (by decide), r 71 (by decide)] at this; exact this
theorem SGN_go [Inhabited gh_] {b F F1 n0 n1 : Int} {M N M1 N1 : mm_} (s : SGN b F F1 M N M1 N1 n0 n1) : SGN b F F1 M N (nX_ M1) (nx_ N1) n0 n1 := by
  refine ⟨fun hb => (s.1 hb).imp id fun z => GDU_c z (fun u hu => ?_) (nX_ne (by decide)) (nx_ne (by decide)), fun hb => by rw [nx_6 (by decide), nx_6 (by decide)]; exact s.2 hb⟩
  unfold GLM at hu ⊢
  rw [nX_ne (by decide), nX_ne (by decide), nX_ne (by decide), nX_ne (by decide)]; exact hu
section S4g
variable {dq : Nat} {b nr np : Int} {Kv : mm_ → Prop} {Qt : qt_} {V : vv_}
theorem l_104 [Inhabited gh_] (hV : Cl_ wd0 (Tr_ wd0 pg0 130) V (rv_ Kv) Qt m_104) (hW : Wk_ V) :
    ∀ (n : Nat) (a F ns : Int) (M N : mm_), 1201 - a ≤ (n : Int) → SYS b F M N a ns nr np → a < 1200 → (M 70 a ≠ 102 ∧ M 70 a ≠ 103) → (b = 1 → SGS (M 70) (M 113) (M 112) (TSG M) (a, ns) ≠ none) →
    (∀ F' M' N' a' ns', SYS b F' M' N' a' ns' nr np → a + 3 ≤ a' → ns + 1 ≤ ns' → XPb M M' → SGR b M N M' N' → M' 70 = M 70 → ((∀ i, i < ns → M' 112 i = M 112 i ∧ M' 56 i = M 56 i) ∧ ∀ i, i < 3 * ns → M' 113 i = M 113 i) → (b = 1 → ∀ r : Nat, r ≠ 1 → M' r = M r) → (F' ≤ F ∧ (b = 1 → F' = F) ∧ SGN b F F' M N M' N' ns ns') → (∀ gm cms tms, SGO b gm cms tms ns ns' M M' → SGS (M 70) gm cms tms (a, ns) = some (a', ns')) → (∀ (G : mm_ → Prop) (Qtq : qt_), G N' → q32 dq N G Qtq) → Kv M') →
    (b = 0 → ∀ Mx', XPb M Mx' → (∀ (G : mm_ → Prop) (Qtq : qt_), (∀ M', SQp Mx' N M' → G M') → q32 dq N G Qtq) → Qt 8 Mx') →
    V 0 [rr 1, none, none, none, none] [] M
  | 0, a, F, ns, M, N, hn, h, h12, _, _, _, _ => by omega
  | n + 1, a, F, ns, M, N, hn, h, h12, hkd, hS, hK, hQ => by
    have ha := ER_a h.1.1.2.1
    have h01 := bl01 h.1.1.2.1
    have hns := h.2.1.2.1.1
    have eS : ∀ gm cms tms, SGS (M 70) gm cms tms (a, ns) = (sgnS (M 70) gm (cms ns) (tms ns) ns a).bind fun a3 => if M 70 a3 = 244 then SGS (M 70) gm cms tms (a3, ns + 1) else (tS (M 70) 259 a3).bind fun a4 => some (a4, ns + 1) := fun gm cms tms => SGS_e ha.1 ha.2
    refine y_sgw (dq := dq) hV hW h hkd h12 (fun hb => by have := hS hb; rw [eS] at this; exact bind_n this) (fun F' Me Ne a3 S3 ha3 xp qp r70 rw3 rb fF k56 sy hq => ?_) hQ
    have g1 := SGN_1 h fF.2.2 k56 qp (fun i hi => (rw3.1 i hi).2) rb
    have hE3 := S3.1.1.2.1
    have hT3 := S3.1.1.1
    have c3 : Me 112 ns ≤ 3 ∧ 0 ≤ Me 112 ns := by
      have := (S3.1.2.1.1.2 ns hns k56.2).1
      omega
    have tsg : b = 1 → TSG Me = TSG M := fun hb => by unfold TSG; rw [rb hb 5 (by decide), rb hb 56 (by decide)]
    have tb : b = 1 → TSG M ns (a + 1) = true := fun hb => by
      unfold TSG
      have k := k56
      rw [rb hb 5 (by decide), rb hb 56 (by decide)] at k
      exact decide_eq_true ⟨k.2, k.1⟩
    have syb : b = 1 → sgnS (M 70) (M 113) (M 112 ns) (TSG M ns) ns a = some a3 := fun hb => sy _ _ _ (tb hb) (fun hb0 => by omega) (fun _ => ⟨rfl, rfl⟩)
    have first : ∀ gm cms tms ns' M', SGO b gm cms tms ns ns' M M' → ns < ns' → (b = 0 → M' 112 ns = Me 112 ns ∧ M' 56 ns = Me 56 ns ∧ ∀ i, i < 3 * (ns + 1) → M' 113 i = Me 113 i) → sgnS (M 70) gm (cms ns) (tms ns) ns a = some a3 := fun gm cms tms ns' M' ok hl hb0 => by
      refine sy gm (cms ns) (tms ns) ?_ (fun hb => ?_) (fun hb => ⟨(ok.2 hb).1, by rw [(ok.2 hb).2.1]⟩)
      · rcases h01 with hb | hb
        · have z := (ok.1 hb ns (Int.le_refl _) hl).2.1
          rw [(hb0 hb).2.1, k56.1] at z; exact z
        · rw [(ok.2 hb).2.2]; exact tb hb
      · have z := ok.1 hb ns (Int.le_refl _) hl
        have z1 : cms ns = Me 112 ns := by rw [z.1]; exact (hb0 hb).1
        refine ⟨z1, fun i i0 i1 => ?_⟩
        rw [z.2.2 i i0 i1]; exact (hb0 hb).2.2 i (by (clear hV hW hn h h12 hkd hS hK hQ ha h01 hns eS S3 ha3 xp qp r70 rw3 rb fF k56 sy hq g1 hE3 hT3 tsg tb syb ok hl hb0 hb i0; omega))
    refine y_117 hE3 (by decide) (fun c => ?_) (fun c => ?_)
    · rw [if_neg (by decide)]
      have c' : M 70 a3 = 244 := by rw [← r70]; exact c
      by_cases h14 : a3 < 1200
      · have q7 : ∀ (G : mm_ → Prop) (Qtq : qt_), q32 dq Ne G Qtq → q32 dq N G Qtq := fun G Qtq hg => hq G Qtq fun V' hV' hW' => j_242t hT3 hE3 (by decide) c h14 (hg V' hV' hW')
        refine l_104 hV hW n a3 F' (ns + 1) Me Ne (by omega) S3 h14 (by rw [r70, c']; decide) (fun hb => ?_) (fun F2 M' N' a' ns' S' ha' hn' xp' qp' r' rw' rb' fF' sy' hq' => ?_) (fun hb Mx' hx' hq' => ?_)
        · have := hS hb
          rw [eS, syb hb, Option.bind_some, if_pos c'] at this
          rw [r70, rb hb 113 (by decide), rb hb 112 (by decide), tsg hb]; exact this
        · rw [r70] at sy'
          refine hK F2 M' N' a' ns' S' (by (clear hV hW hn h h12 hkd hS hK hQ ha h01 hns eS S3 xp qp r70 rw3 rb fF sy hq g1 hE3 hT3 c3 tsg tb syb first c c' h14 q7 S' hn' xp' qp' r' rw' rb' fF' sy' hq'; lia)) (by omega) (XPb_tr xp xp') (SGR_tr qp qp') (r'.trans r70) ⟨fun i hi => ⟨(rw'.1 i (by omega)).1.trans (rw3.1 i hi).1, (rw'.1 i (by omega)).2.trans (rw3.1 i hi).2⟩, fun i hi => (rw'.2 i (by omega)).trans (rw3.2 i hi)⟩ (fun hb r e1 => (rb' hb r e1).trans (rb hb r e1)) ⟨by (clear hV hW hn h h12 hkd hS hK hQ ha h01 hns eS S3 ha3 xp qp r70 rw3 rb k56 sy hq g1 hE3 hT3 c3 tsg tb syb first c c' h14 q7 S' ha' hn' xp' qp' r' rw' rb' sy' hq'; omega), fun hb => (fF'.2.1 hb).trans (fF.2.1 hb), SGN_tr g1 fF'.2.2 (fun hb u hu => GLM_sg qp' (fun i hi => (rw'.1 i hi).2) (S3.2.1.2.2 hb).1 (by have := (S'.2.1.2.2 hb).1; (clear hV hW hn h h12 hkd hS hK hQ ha h01 hns eS S3 ha3 xp qp r70 rw3 rb fF k56 sy hq g1 hE3 hT3 c3 tsg tb syb first c c' h14 q7 S' ha' xp' qp' r' rw' rb' fF' sy' hq' hb hu; lia)) hu) qp qp' rb⟩ (fun gm cms tms ok => ?_) (fun G Qtq hg => q7 G Qtq (hq' G Qtq hg))
          rw [eS, first gm cms tms ns' M' ok (by omega) (fun hb => ⟨(rw'.1 ns (by omega)).1, (rw'.1 ns (by omega)).2, fun i hi => rw'.2 i hi⟩), Option.bind_some, if_pos c']
          exact sy' gm cms tms ⟨fun hb k k0 k1 => ok.1 hb k (by (clear hV hW hn h h12 hkd hS hK hQ ha h01 hns eS S3 ha3 xp qp r70 rw3 rb fF k56 sy hq g1 hE3 hT3 c3 tsg tb syb first c c' h14 q7 S' ha' hn' xp' qp' r' rw' rb' fF' sy' hq' ok hb k1; lia)) k1, fun hb => by rw [rb hb 113 (by decide), rb hb 112 (by decide), tsg hb]; exact ok.2 hb⟩
        · exact hQ hb Mx' (XPb_tr xp hx') (fun G Qtq hg => q7 G Qtq (hq' G Qtq fun M9 p => hg _ (SQp_tr (SGR_Q qp) p)))
      · rcases h01 with hb | hb
        · refine b_104_0 (Tr_mono _) hV hW _ ?_
          refine y_105 hE3 (by rw [c]; decide) (fun hb1 => by omega) (fun h16 _ => by omega) (fun _ h16 => ?_)
          have hsp := SQ_bf hE3 hb (k := 2) (by decide) QA_rf
          exact hQ hb _ (XPb_tr xp XPb_fl) (fun G Qtq hg => hq G Qtq fun V' hV' hW' => j_242r hT3 hE3 hb (by decide) c h16 (q32_s hV' hW' hsp.1 (hg _ (SQp_tr (SGR_Q qp) (SQ_P hsp)))))
        · exfalso
          have a3' := ER_a hE3
          have := hS hb
          rw [eS, syb hb, Option.bind_some, if_pos c', SGS_e a3'.1 a3'.2] at this
          have z := bind_n this
          unfold sgnS snS at z
          exact h14 (gS_n (bind_n (bind_n z)))
    · rw [if_pos rfl]
      have c' : M 70 a3 ≠ 244 := by rw [← r70]; exact c
      have toQ : ∀ {G : mm_ → Prop} {Qtq : qt_}, Tr_ wd0 pg0 (dq + 18) 244 [.inr (.inr 6), .inl 59] Ne (rv_ fun M1 => rv_ G [] M1) Qtq → q32 dq N G Qtq := fun hg => hq _ _ fun V' hV' hW' => j_242f hT3 hE3 (by decide) c (b_232_2 (Tr_mono _) hV' hW' _ _ (by rw [if_pos rfl]; exact hg))
      refine y_121 hE3 (by decide) (fun hb => by
        have := hS hb
        rw [eS, syb hb, Option.bind_some, if_neg c'] at this
        rw [r70]; exact bind_n this) (fun k2 h13 hE4 => ?_) (fun hb k2 h13 => ?_) (fun hb k2 => ?_)
      · have S4 := SYS_go S3 hE4
        have k2' : M 70 a3 = 259 := by rw [← r70]; exact k2
        have n5 : ∀ r : Nat, r ≠ 1 → nX_ Me r = Me r := fun r h => nX_ne h
        refine rv_i (hK F' (nX_ Me) (nx_ Ne) (a3 + 1) (ns + 1) S4 (by omega) (Int.le_refl _) (XPb_tr xp XPb_nX) (SGR_tr qp SGR_go) (by rw [n5 70 (by decide)]; exact r70) (by rw [n5 112 (by decide), n5 56 (by decide), n5 113 (by decide)]; exact rw3) (fun hb r e1 => by rw [n5 r e1]; exact rb hb r e1) ⟨fF.1, fF.2.1, SGN_go g1⟩ (fun gm cms tms ok => ?_) (fun G Qtq hg => toQ (j_244t hT3 hE3 (by decide) k2 h13 (rv_i hg))))
        rw [eS, first gm cms tms (ns + 1) (nX_ Me) ok (by omega) (fun hb => by rw [n5 112 (by decide), n5 56 (by decide), n5 113 (by decide)]; exact ⟨rfl, rfl, fun _ _ => rfl⟩), Option.bind_some, if_neg c', tS_e k2' h13, Option.bind_some]
      · have hsp := SQ_bf hE3 hb (k := 2) (by decide) QA_rf
        exact hQ hb _ (XPb_tr xp XPb_fl) (fun G Qtq hg => toQ (j_244r hT3 hE3 hb (by decide) k2 h13 (rv_i (hg _ (SQp_tr (SGR_Q qp) (SQ_P hsp))))))
      · have hsp := SQ_bf hE3 hb (k := 1) (by decide) QA_rf
        exact hQ hb _ (XPb_tr xp XPb_fl) (fun G Qtq hg => toQ (j_244w hT3 hE3 hb (by decide) k2 (rv_i (hg _ (SQp_tr (SGR_Q qp) (SQ_P hsp))))))
end S4g
end T277_s4
section T278_s5
/-! a line of signals, with its keyword (X 104 | Q 228, 232) -/
def qSC (dq : Nat) (N : mm_) (G : mm_ → Prop) (Qt : qt_) : Prop := Tr_ wd0 pg0 (dq + 19) 228 [.inr (.inr 6), .inl 0] N (ri_ fun v M3 => if v = 0 then False else Tr_ wd0 pg0 (dq + 19) 232 [.inr (.inr 6)] M3 (rv_ G) Qt) Qt
section S5g
variable {dq : Nat} {b F nr np ns a : Int} {Kv G : mm_ → Prop} {Qt Qtq : qt_} {M N : mm_}
theorem q232z [Inhabited gh_] (hs : sp_ N) (h : G N) : Tr_ wd0 pg0 (dq + 19) 232 [.inr (.inr 6)] N (rv_ G) Qtq := t_232 fun V hV hW => b_232_0 (Tr_mono _) hV hW _ (q32_s hV hW hs h)
theorem y_104 [Inhabited gh_] (h : SYS b F M N a ns nr np) (hk : M 70 a = 0) (hS : b = 1 → SGS (M 70) (M 113) (M 112) (TSG M) (a, ns) ≠ none)
    (hK : ∀ F' M' N' a' ns', SYS b F' M' N' a' ns' nr np → a + 3 ≤ a' → ns + 1 ≤ ns' → XPb M M' → SGR b M N M' N' → M' 70 = M 70 → ((∀ i, i < ns → M' 112 i = M 112 i ∧ M' 56 i = M 56 i) ∧ ∀ i, i < 3 * ns → M' 113 i = M 113 i) → (b = 1 → ∀ r : Nat, r ≠ 1 → M' r = M r) → (F' ≤ F ∧ (b = 1 → F' = F) ∧ SGN b F F' M N M' N' ns ns') → (∀ gm cms tms, SGO b gm cms tms ns ns' M M' → SGS (M 70) gm cms tms (a, ns) = some (a', ns')) → (∀ (G : mm_ → Prop) (Qtq : qt_), G N' → qSC dq N G Qtq) → Kv M')
    (hQ : b = 0 → ∀ Mx', XPb M Mx' → (∀ (G : mm_ → Prop) (Qtq : qt_), (∀ M', SQp Mx' N M' → G M') → qSC dq N G Qtq) → Qt 8 Mx') :
    Tr_ wd0 pg0 131 104 [.inr (.inr 1)] M (rv_ Kv) Qt := by
  have hE := h.1.1.2.1
  have hT := h.1.1.1
  have ha := ER_a hE
  refine t_104 fun V hV hW => ?_
  by_cases h12 : a < 1200
  · have toQ : ∀ (G : mm_ → Prop) (Qtq : qt_), q32 dq N G Qtq → qSC dq N G Qtq := fun G Qtq hq => j_228t hT hE (by decide) hk h12 (by
      rw [if_neg (by decide)]
      exact t_232 fun V' hV' hW' => b_232_0 (Tr_mono _) hV' hW' _ (hq V' hV' hW'))
    exact l_104 (dq := dq) hV hW 1201 a F ns M N (by omega) h h12 (by omega) hS (fun F' M' N' a' ns' g1 g2 g3 g4 g5 g6 g7 g8 g9 g10 g11 => hK F' M' N' a' ns' g1 g2 g3 g4 g5 g6 g7 g8 g9 g10 (fun G Qtq hg => toQ G Qtq (g11 G Qtq hg))) (fun hb Mx' hx hq => hQ hb Mx' hx (fun G Qtq hg => toQ G Qtq (hq G Qtq hg)))
  · rcases bl01 hE with hb | hb
    · refine b_104_0 (Tr_mono _) hV hW _ ?_
      refine y_105 hE (by (clear h hS hK hQ hE hT ha hV hW h12 hb; omega)) (fun hb1 => by (clear h hk hS hK hQ hE hT ha hV hW h12; lia)) (fun h16 _ => by (clear h hk hS hK hQ hE hT hV hW hb; omega)) (fun _ h16 => ?_)
      have hsp := SQ_bf hE hb (k := 2) (by decide) QA_rf
      exact hQ hb _ XPb_fl (fun G Qtq hg => j_228r hT hE hb (by decide) hk h16 (by rw [if_neg (by decide)]; exact q232z hsp.1 (hg _ (SQ_P hsp))))
    · exfalso
      have := hS hb
      rw [SGS_e ha.1 ha.2] at this
      have z := bind_n this
      unfold sgnS snS at z
      exact h12 (gS_n (bind_n (bind_n z)))
end S5g
end T278_s5
section T279_rt
/-! routes: within a line (X 122 | Q 245), a side (123 | 246) -/
def RL [Inhabited gh_] (b F : Int) (M N : mm_) (a : Int) : Prop := (Tks M N ∧ ER b F M N a 0 ∧ M 1 2 = 5) ∧ (sgl9 M N ∧ tpl9 M N) ∧ M 1 7 + 8 * (1201 - a) ≤ 1000000000 - (gg_ : Int)
/-- what stays (r: the route) -/
def RLF (b r : Int) (M N M1 N1 : mm_) : Prop := ((∀ k : Nat, k ∉ [1, 114, 115, 116, 117, 118, 119] → M1 k = M k) ∧ (∀ i : Int, i ∉ [3, 4, 5, 7] → M1 1 i = M 1 i) ∧ (∀ k : Nat, k ∈ [115, 116, 117, 118, 119] → ∀ i, i ≠ r → M1 k i = M k i) ∧ ∀ i, i ≠ 2 * r → i ≠ 2 * r + 1 → M1 114 i = M 114 i)
  ∧ ((∀ k : Nat, k ≠ 6 → N1 k = N k) ∧ (∀ i : Int, i ∉ [12, 13, 14] → N1 6 i = N 6 i) ∧ (b = 1 → N1 6 13 = 0 → N 6 13 = 0))
/-- steps that write no row -/
def RLN (b : Int) (M N M1 N1 : mm_) : Prop := ((∀ k : Nat, k ≠ 1 → M1 k = M k) ∧ (∀ i : Int, i ∉ [3, 4, 5, 7] → M1 1 i = M 1 i)) ∧ ((∀ k : Nat, k ≠ 6 → N1 k = N k) ∧ (∀ i : Int, i ∉ [12, 13, 14] → N1 6 i = N 6 i) ∧ (b = 1 → N1 6 13 = 0 → N 6 13 = 0))
def sdO (κ : Int → Int) (a : Int) : Prop := (κ a = 25 ∨ κ a = 100) ∧ a < 1200
def sdv (M N : mm_) (a : Int) : Int := if M 70 a = 25 then -2 else tpl N (N 151 a)
def sdq (M N : mm_) (a : Int) : Int := if M 70 a = 25 then 0 else N 151 a
section RTa
variable {d dq : Nat} {b F r t kk tk v : Int} {K : Int → mm_ → Prop} {Kv G : mm_ → Prop} {Qt Qtq : qt_} {V V' : vv_} {M N Mx' M' N' M1 N1 M2 N2 : mm_} {a a' : Int}
theorem sgl_e [Inhabited gh_] (h17 : N1 6 17 = N 6 17) (h152 : N1 152 = N 152) : sgl N1 = sgl N := by funext y; unfold sgl; rw [h17, h152]
theorem tpl_e [Inhabited gh_] (h19 : N1 6 19 = N 6 19) (h154 : N1 154 = N 154) : tpl N1 = tpl N := by funext y; unfold tpl; rw [h19, h154]
theorem RL_c [Inhabited gh_] (h : RL b F M N a) (hE : ER b F M1 N1 a' 0) (hx : ∀ k : Nat, k ∈ [5, 56, 58, 69, 70, 71, 72, 73] → M1 k = M k) (h2 : M1 1 2 = M 1 2) (h7 : M1 1 7 + 8 * (1201 - a') ≤ 1000000000 - (gg_ : Int)) (hq : ∀ k : Nat, k ∈ [149, 150, 151, 152, 154] → N1 k = N k) (h6 : N1 6 17 = N 6 17 ∧ N1 6 19 = N 6 19) : RL b F M1 N1 a' := by
  obtain ⟨⟨s1, s2, s3⟩, ⟨g1, g2⟩, c⟩ := h
  have e70 := hx 70 (by decide)
  refine ⟨⟨Tks_r s1 (fun k hk => hx k (by simp only [List.mem_cons, List.not_mem_nil, or_false] at hk ⊢; (clear hE hx h2 h7 hq h6 s1 s2 s3 c g1 g2 e70; lia))) (fun k hk => hq k (by simp only [List.mem_cons, List.not_mem_nil, or_false] at hk ⊢; (clear hE hx h2 h7 hq h6 s1 s2 s3 c g1 g2 e70; lia))), hE, h2.trans s3⟩, ⟨?_, ?_⟩, h7⟩
  · unfold sgl9
    rw [hx 5 (by decide), h6.1, hx 56 (by decide), hq 152 (by decide), hq 151 (by decide)]
    exact ⟨g1.1, fun k k0 k1 => ⟨nm9_r (g1.2 k k0 k1).1 e70, (g1.2 k k0 k1).2⟩⟩
  · unfold tpl9
    rw [hx 5 (by decide), h6.2, hx 58 (by decide), hq 154 (by decide), hq 151 (by decide)]
    exact ⟨g2.1, fun k k0 k1 => ⟨nm9_r (g2.2 k k0 k1).1 e70, (g2.2 k k0 k1).2⟩⟩
theorem RLN_RL [Inhabited gh_] (h : RL b F M N a) (hE : ER b F M1 N1 a' 0) (h7 : M1 1 7 + 8 * (1201 - a') ≤ 1000000000 - (gg_ : Int)) (f : RLN b M N M1 N1) : RL b F M1 N1 a' := RL_c h hE (fun k hk => f.1.1 k (fun e => by rw [e] at hk; revert hk; decide)) (f.1.2 2 (by decide)) h7 (fun k hk => f.2.1 k (fun e => by rw [e] at hk; revert hk; decide)) ⟨f.2.2.1 17 (by decide), f.2.2.1 19 (by decide)⟩
theorem RLN_go [Inhabited gh_] : RLN b M N (nX_ M) (nx_ N) := ⟨⟨fun k hk => nX_ne hk, fun i hi => nX_1 (nm_i hi (by decide))⟩, fun k hk => nx_ne hk, fun i hi => nx_6 (nm_i hi (by decide)), fun _ hz => by rw [nx_6 (by decide)] at hz; exact hz⟩
theorem RLN_rf [Inhabited gh_] : RLN b M N M N := ⟨⟨fun _ _ => rfl, fun _ _ => rfl⟩, fun _ _ => rfl, fun _ _ => rfl, fun _ h => h⟩
theorem RLN_tr [Inhabited gh_] (h : RLN b M N M1 N1) (g : RLN b M1 N1 M2 N2) : RLN b M N M2 N2 := ⟨⟨fun k hk => (g.1.1 k hk).trans (h.1.1 k hk), fun i hi => (g.1.2 i hi).trans (h.1.2 i hi)⟩, fun k hk => (g.2.1 k hk).trans (h.2.1 k hk), fun i hi => (g.2.2.1 i hi).trans (h.2.2.1 i hi), fun hb hz => h.2.2.2 hb (g.2.2.2 hb hz)⟩
theorem RLF_rf [Inhabited gh_] : RLF b r M N M N := ⟨⟨fun _ _ => rfl, fun _ _ => rfl, fun _ _ _ _ => rfl, fun _ _ _ => rfl⟩, fun _ _ => rfl, fun _ _ => rfl, fun _ h => h⟩
theorem RLF_tr [Inhabited gh_] (h : RLF b r M N M1 N1) (g : RLF b r M1 N1 M2 N2) : RLF b r M N M2 N2 := ⟨⟨fun k hk => (g.1.1 k hk).trans (h.1.1 k hk), fun i hi => (g.1.2.1 i hi).trans (h.1.2.1 i hi), fun k hk i hi => (g.1.2.2.1 k hk i hi).trans (h.1.2.2.1 k hk i hi), fun i h1 h2 => (g.1.2.2.2 i h1 h2).trans (h.1.2.2.2 i h1 h2)⟩, fun k hk => (g.2.1 k hk).trans (h.2.1 k hk), fun i hi => (g.2.2.1 i hi).trans (h.2.2.1 i hi), fun hb hz => h.2.2.2 hb (g.2.2.2 hb hz)⟩
theorem RLN_F [Inhabited gh_] (h : RLN b M N M1 N1) : RLF b r M N M1 N1 := ⟨⟨fun k hk => h.1.1 k (fun e => hk (by rw [e]; decide)), fun i hi => h.1.2 i hi, fun k hk i _ => by rw [h.1.1 k (fun e => by rw [e] at hk; revert hk; decide)], fun i _ _ => by rw [h.1.1 114 (by decide)]⟩, h.2⟩
/-- a row of the route written -/
theorem RLF_up [Inhabited gh_] {k : Nat} {i : Int} (hk : k ∈ [115, 116, 117, 118, 119] ∧ i = r ∨ k = 114 ∧ (i = 2 * r ∨ i = 2 * r + 1)) : RLF b r M N (up_ M k i v) N := by
  refine ⟨⟨fun k' hk' => up_ne (fun e => hk' ?_), fun i' _ => by rw [up_ne (fun e => by rw [← e] at hk; revert hk; simp)], fun k' hk' i' hi' => ?_, fun i' h1 h2 => ?_⟩, fun _ _ => rfl, fun _ _ => rfl, fun _ h => h⟩
  · rw [e]
    rcases hk with hk | hk
    · have := hk.1
      simp only [List.mem_cons, List.not_mem_nil, or_false] at this ⊢
      (clear hk' hk; lia)
    · rw [hk.1]; decide
  · rcases hk with hk | hk
    · rw [hk.2]; exact up_of2 hi'
    · rw [hk.1, up_ne (fun e => by rw [e] at hk'; revert hk'; decide)]
  · rcases hk with hk | hk
    · rw [up_ne (fun e => by rw [← e] at hk; revert hk; simp)]
    · refine up_of2 ?_
      rcases hk.2 with e | e <;> rw [e] <;> assumption
theorem RL_up [Inhabited gh_] {k : Nat} {i : Int} (hk : k ∈ [114, 115, 116, 117, 118, 119]) (h : RL b F M N a) : RL b F (up_ M k i v) N a := by
  have u : ∀ k' : Nat, k' ∉ [114, 115, 116, 117, 118, 119] → up_ M k i v k' = M k' := fun k' h' => up_ne (fun e => h' (by rw [e]; exact hk))
  refine RL_c h (ER_1 h.1.2.1 (u 70 (by decide)) (by rw [u 5 (by decide)]) (fun i _ => by rw [u 1 (by decide)]) (fun _ _ => rfl)) (fun k' hk' => u k' (by simp only [List.mem_cons, List.not_mem_nil, or_false] at hk' ⊢; omega)) (by rw [u 1 (by decide)]) (by rw [u 1 (by decide)]; exact h.2.2) (fun _ _ => rfl) ⟨rfl, rfl⟩
theorem RL_go [Inhabited gh_] (h : RL b F M N a) (hE : ER b F (nX_ M) (nx_ N) (a + 1) 0) : RL b F (nX_ M) (nx_ N) (a + 1) := RLN_RL h hE (by rw [nX_1 (by decide)]; have := h.2.2; omega) RLN_go
/-- behind the token: a note of both -/
theorem RL_n [Inhabited gh_] (h : RL b F M N a) (hE : ER b F (nX_ M) (nx_ N) (a + 1) 0) (hk : kk = 0 ∨ (3 ≤ kk ∧ kk ≤ 6)) (ht : gd_ M tk) : RL b F (Xn_ (nX_ M) b kk tk) (Qn_ (nx_ N) b kk (M 71 tk)) (a + 1) ∧ RLN b M N (Xn_ (nX_ M) b kk tk) (Qn_ (nx_ N) b kk (M 71 tk)) ∧ (b = 1 → Qn_ (nx_ N) b kk (M 71 tk) 6 13 = 0 → kk = 0) := by
  have hp := (h.1.1 tk ht).2.2.2.1
  have c := h.2.2
  have x71 : nX_ M 71 = M 71 := nX_ne (by decide)
  have x7 : nX_ M 1 7 = M 1 7 := nX_1 (by decide)
  have m := ER_m hE hk (tk := tk) (by rw [x71]; omega) (by rw [x7]; omega)
  rw [x71, x7] at m
  have f : RLN b M N (Xn_ (nX_ M) b kk tk) (Qn_ (nx_ N) b kk (M 71 tk)) := RLN_tr RLN_go ⟨⟨fun k hk => Xn_r hk, fun i hi => Xn_1 (nm_i hi (by decide)) (nm_i hi (by decide)) (nm_i hi (by decide))⟩, fun k hk => Qn_r hk, fun i hi => Qn_6 (nm_i hi (by decide)) (nm_i hi (by decide)), fun hb hz => (m.2.2 hb hz).2⟩
  exact ⟨RLN_RL h m.1 (by omega) f, f, fun hb hz => (m.2.2 hb hz).1⟩
theorem RLN_X [Inhabited gh_] (h : RLN b M N M1 N1) : XPb M M1 := fun k hk => h.1.1 k (fun e => hk (by rw [e]; decide))
theorem RLN_Q [Inhabited gh_] (h : RLN b M N M1 N1) : QPb N N1 := ⟨fun k hk => h.2.1 k (fun e => hk (by unfold QPRr; omega)), fun i hi => h.2.2.1 i (fun e => hi (by simp only [qpI, List.mem_cons, List.not_mem_nil, or_false] at e ⊢; (clear h hi; lia)))⟩
theorem RLF_X [Inhabited gh_] (h : RLF b r M N M1 N1) : XPb M M1 := fun k hk => h.1.1 k (fun e => hk (by simp only [xpL, List.mem_cons, List.not_mem_nil, or_false] at e ⊢; (clear h hk; lia)))
theorem RLF_Q [Inhabited gh_] (h : RLF b r M N M1 N1) : QPb N N1 := ⟨fun k hk => h.2.1 k (fun e => hk (by unfold QPRr; omega)), fun i hi => h.2.2.1 i (fun e => hi (by simp only [qpI, List.mem_cons, List.not_mem_nil, or_false] at e ⊢; (clear h hi; lia)))⟩
theorem q_246s [Inhabited gh_] (hs : sp_ N) (hi : in9_ N) (h : ∀ v, K v N) : Tr_ wd0 pg0 (d + 4) 246 [.inr (.inr 6)] N (rl_ K) Qt := by
  refine t_246 fun V hV hW => b_246_0 (Tr_mono _) hV hW _ (q_228s hs ?_)
  rw [if_pos rfl]
  refine q_233s hs ?_
  intro _
  rw [if_pos hs.2]
  exact ⟨hi, rl_i (h _)⟩
theorem tpl_q [Inhabited gh_] (h : tpl9 M N) : ∃ m : Nat, N 6 19 = m ∧ (m : Int) ≤ 6 ∧ (N 6 19).toNat = m := by
  obtain ⟨m, hm⟩ := Int.eq_ofNat_of_zero_le h.1.1
  have := h.1
  exact ⟨m, by (clear h; lia), by (clear h; lia), by (clear h; lia)⟩
theorem sgl_q [Inhabited gh_] (h : sgl9 M N) : ∃ m : Nat, N 6 17 = m ∧ (m : Int) ≤ 20 ∧ (N 6 17).toNat = m := by
  obtain ⟨m, hm⟩ := Int.eq_ofNat_of_zero_le h.1.1
  have := h.1
  exact ⟨m, by omega, by omega, by (clear h; lia)⟩
theorem q_247t [Inhabited gh_] (h9 : tpl9 M N) (h : K (tpl N v) N) : Tr_ wd0 pg0 (d + 1) 247 [.inr (.inr 6), .inr (.inl v)] N (ri_ K) Qt := by
  obtain ⟨m, h1, h2, h3⟩ := tpl_q h9
  refine q_247 h1 h2 ?_
  unfold tpl at h; rw [h3] at h; exact h
theorem q_251t [Inhabited gh_] (h9 : sgl9 M N) (h : K (sgl N v) N) : Tr_ wd0 pg0 (d + 1) 251 [.inr (.inr 6), .inr (.inl v)] N (ri_ K) Qt := by
  obtain ⟨m, h1, h2, h3⟩ := sgl_q h9
  refine q_251 h1 h2 ?_
  unfold sgl at h; rw [h3] at h; exact h
theorem y_123 [Inhabited gh_] (h : RL b F M N a) (hS : b = 1 → sdO (M 70) a)
    (hK : ∀ M1 N1, RL b F M1 N1 (a + 1) → RLN b M N M1 N1 → sdO (M 70) a → (b = 1 → N1 6 13 = 0 → sdv M N a ≠ -1) → (∀ (Kq : Int → mm_ → Prop) (Qtq : qt_), Kq (sdq M N a) N1 → Tr_ wd0 pg0 (dq + 18) 246 [.inr (.inr 6)] N (rl_ Kq) Qtq) → K (sdv M N a) M1)
    (hQ : b = 0 → ∀ Mx', XPb M Mx' → (∀ (Kq : Int → mm_ → Prop) (Qtq : qt_), (∀ v M', SQp Mx' N M' → Kq v M') → Tr_ wd0 pg0 (dq + 18) 246 [.inr (.inr 6)] N (rl_ Kq) Qtq) → Qt 8 Mx') :
    Tr_ wd0 pg0 (d + 5) 123 [.inr (.inr 1)] M (ri_ K) Qt := by
  have hE := h.1.2.1
  have hT := h.1.1
  have ha := ER_a hE
  have h01 := bl01 hE
  refine t_123 fun V hV hW => b_123_0 (Tr_mono _) hV hW _ ?_
  refine y_103 hE (fun k1 => ?_) (fun k1 => ?_)
  · rw [if_neg (by decide)]
    refine y_105 hE (by omega) (fun hb => by unfold gS; rw [if_pos (hS hb).2]; exact fun e => by cases e) (fun h12 hE1 => ?_) (fun hb h12 => ?_)
    · refine ri_i ?_
      have := hK (nX_ M) (nx_ N) (RL_go h hE1) RLN_go ⟨.inl k1, h12⟩ (fun _ _ => by unfold sdv; rw [if_pos k1]; decide) (fun Kq Qtq hq => ?_)
      · unfold sdv at this; rw [if_pos k1] at this; exact this
      · unfold sdq at hq; rw [if_pos k1] at hq
        exact t_246 fun V' hV' hW' => b_246_0 (Tr_mono _) hV' hW' _ (j_228t hT hE (by decide) k1 h12 (by rw [if_neg (by decide)]; exact rl_i hq))
    · have hsp := SQ_bf hE hb (k := 2) (by decide) QA_rf
      exact hQ hb _ XPb_fl (fun Kq Qtq hg => t_246 fun V' hV' hW' => b_246_0 (Tr_mono _) hV' hW' _ (j_228r hT hE hb (by decide) k1 h12 (by rw [if_neg (by decide)]; exact rl_i (hg _ _ (SQ_P hsp)))))
  · rw [if_pos rfl]
    have toQ : ∀ {Kq : Int → mm_ → Prop} {Qtq : qt_}, (Tr_ wd0 pg0 (dq + 17) 233 [.inr (.inr 6)] N (ri_ fun v2 M2 =>
    (bl_ (M2 6 16) → (if M2 6 16 = 0 then
     (0 ≤ v2 ∧ v2 < 1202) ∧
      rl_ Kq [.inr (.inl (M2 151 v2))] M2
    else
     (0 ≤ v2 ∧ v2 < 1202) ∧
      Tr_ wd0 pg0 (dq + 17) 247 [.inr (.inr 6), .inr (.inl (M2 151 v2))] M2 (ri_ fun v3 M3 =>
      (if v3 < 0 then
       (0 ≤ v2 ∧ v2 < 1202) ∧
        Tr_ wd0 pg0 (dq + 17) 236 [.inr (.inr 6), .inl 4, .inl (M3 150 v2)] M3 (rv_ fun M4 =>
        (0 ≤ v2 ∧ v2 < 1202) ∧
         rl_ Kq [.inr (.inl (M4 151 v2))] M4) Qtq
      else
       (0 ≤ v2 ∧ v2 < 1202) ∧
        rl_ Kq [.inr (.inl (M3 151 v2))] M3)) Qtq))) Qtq) → Tr_ wd0 pg0 (dq + 18) 246 [.inr (.inr 6)] N (rl_ Kq) Qtq := fun hq => t_246 fun V' hV' hW' => b_246_0 (Tr_mono _) hV' hW' _ (j_228f hT hE (by decide) k1 (by rw [if_pos rfl]; exact hq))
    refine y_107 hE (fun hb => by
      have := hS hb
      unfold sdO at this
      unfold tS gS
      rw [if_pos (by (clear h hS hK hQ hE hT ha h01 hV hW toQ hb; lia)), if_pos this.2]; exact fun e => by cases e) (fun k2 h12 hE1 => ?_) (fun hb k2 h12 => ?_) (fun hb k2 => ?_)
    rotate_left
    · have hsp := SQ_bf hE hb (k := 2) (by decide) QA_rf
      exact hQ hb _ XPb_fl (fun Kq Qtq hg => toQ (j_233r hT hE hb k2 h12 (fun _ => by rw [if_pos hsp.1.2]; exact ⟨by omega, rl_i (hg _ _ (SQ_P hsp))⟩)))
    · have hsp := SQ_bf hE hb (k := 1) (by decide) QA_rf
      exact hQ hb _ XPb_fl (fun Kq Qtq hg => toQ (j_233w hT hE hb k2 (fun _ => by rw [if_pos hsp.1.2]; exact ⟨by omega, rl_i (hg _ _ (SQ_P hsp))⟩)))
    have R1 := RL_go h hE1
    have nmt : nm9_ (nX_ M) a := ⟨gd_c (nX_ne (by decide)) hE.1, by rw [nX_ne (by decide)]; exact k2⟩
    have e16 : nx_ N 6 16 = b := hE1.2.2.2.2.2.2.2.1
    have e8 : nX_ M 1 8 = b := hE1.2.2.2.2.2.2.1
    have q151 : nx_ N 151 = N 151 := nx_ne (by decide)
    have tpe : tpl (nx_ N) = tpl N := tpl_e (nx_6 (by decide)) (nx_ne (by decide))
    have p15 : nx_ N 150 a = M 71 a := by rw [nx_ne (by decide)]; exact ((hT a hE.1).2.1).symm
    have hso : sdO (M 70) a := ⟨.inr k2, h12⟩
    refine x_115s R1.1.1 R1.1.2.2 R1.2.1.2 nmt ?_
    rw [tpe, q151]
    intro _
    rw [e8]
    rcases h01 with hb | hb
    · rw [if_pos hb]
      refine ri_i ?_
      have := hK (nX_ M) (nx_ N) R1 RLN_go hso (fun hb1 => by (clear h hS hK hQ hE hT ha hV hW k1 toQ k2 h12 hE1 R1 nmt e16 q151 tpe p15 hso; lia)) (fun Kq Qtq hq => ?_)
      · unfold sdv at this; rw [if_neg k1] at this; exact this
      · unfold sdq at hq; rw [if_neg k1] at hq
        refine toQ (j_233t hT hE k2 h12 (fun _ => ?_))
        rw [e16, if_pos hb, q151]
        exact ⟨by omega, rl_i hq⟩
    · rw [if_neg (by (clear h hS hK hQ hE hT ha hV hW k1 toQ k2 h12 hE1 R1 nmt e16 q151 tpe p15 hso; lia))]
      by_cases c : tpl N (N 151 a) = -1
      · rw [if_pos c]
        obtain ⟨R2, f2, z2⟩ := RL_n (kk := 4) (tk := a) h hE1 (.inr (by decide)) hE.1
        have ex : Xn_ (nX_ M) b 4 a = nt1_ (nX_ M) 4 a := by unfold Xn_; rw [if_neg (by (clear h hS hK hQ hE hT ha hV hW k1 toQ k2 h12 hE1 R1 nmt e16 q151 tpe p15 hso c R2 f2 z2; lia))]
        have eq : Qn_ (nx_ N) b 4 (M 71 a) = nt_ (nx_ N) 4 (M 71 a) := by unfold Qn_; rw [if_neg (by omega)]
        rw [ex, eq] at R2 f2
        rw [eq] at z2
        have b7 := R1.2.2
        refine x_116 (by (clear h hS hK hQ hE hT hV hW k1 toQ k2 hE1 R1 nmt e16 e8 q151 tpe p15 hso hb c R2 f2 z2 ex eq b7; omega)) (by (clear h hS hK hQ hE hT hV hW k1 toQ k2 hE1 R1 nmt e16 e8 q151 tpe p15 hso hb c R2 f2 z2 ex eq b7; omega)) hE1.2.2.2.2.2.2.2.2.2.2.2.1 (by (clear h hS hK hQ hE hT hV hW k1 toQ k2 hE1 R1 nmt e16 e8 q151 tpe p15 hso hb c R2 f2 z2 ex eq; lia)) (ri_i ?_)
        have := hK _ _ R2 f2 hso (fun hb1 hz => absurd (z2 hb1 hz) (by decide)) (fun Kq Qtq hq => ?_)
        · unfold sdv at this; rw [if_neg k1] at this; exact this
        · unfold sdq at hq; rw [if_neg k1] at hq
          refine toQ (j_233t hT hE k2 h12 (fun _ => ?_))
          rw [e16, if_neg (by (clear h hS hK hQ hE hT ha hV hW k1 toQ k2 h12 hE1 R1 nmt e16 q151 tpe p15 hso c R2 f2 z2 ex eq b7 hq; lia))]
          refine ⟨by (clear h hS hK hQ hE hT hV hW k1 toQ k2 hE1 R1 nmt e16 e8 q151 tpe p15 hso hb c R2 f2 z2 ex eq b7 hq; omega), q_247t (M := nX_ M) R1.2.1.2 ?_⟩
          rw [tpe, q151, if_pos (by omega), p15]
          refine ⟨by omega, q_236 ⟨by omega, ?_⟩⟩
          rw [ntQ_r (by decide), q151]
          exact rl_i hq
      · rw [if_neg c]
        refine ri_i ?_
        have := hK (nX_ M) (nx_ N) R1 RLN_go hso (fun _ _ => by unfold sdv; rw [if_neg k1]; exact c) (fun Kq Qtq hq => ?_)
        · unfold sdv at this; rw [if_neg k1] at this; exact this
        · unfold sdq at hq; rw [if_neg k1] at hq
          refine toQ (j_233t hT hE k2 h12 (fun _ => ?_))
          rw [e16, if_neg (by omega)]
          refine ⟨by omega, q_247t (M := nX_ M) R1.2.1.2 ?_⟩
          have t0 : ¬ tpl N (N 151 a) < 0 := by
            have : tpl N (N 151 a) = -1 ∨ 0 ≤ tpl N (N 151 a) := by
              unfold tpl
              rcases fi_r (fun i => N 154 i) (N 151 a) (N 6 19).toNat 0 with e | e
              · exact .inl e
              · exact .inr e.1
            (clear h hS hK hQ hE hT ha hV hW k1 toQ k2 h12 hE1 R1 nmt e16 e8 q151 tpe p15 hso hb hq; lia)
          rw [tpe, q151, if_neg t0]
          exact ⟨by omega, rl_i hq⟩
end RTa
end T279_rt
section T280_rt
/-! routes: DELAY -/
def dle (κ : Int → Int) (a : Int) : Int := if κ a = 24 then (if κ (a + 2) = 115 then a + 4 else a + 2) else a
def DLO (κ ν : Int → Int) (a : Int) : Prop := κ a = 24 → (κ (a + 1) = 101 ∧ ν (a + 1) ≤ 200 ∧ 0 ≤ ν (a + 1) ∧ a + 1 < 1200) ∧ (κ (a + 2) = 115 → κ (a + 3) = 101 ∧ ν (a + 3) ≤ 200 ∧ 0 ≤ ν (a + 3) ∧ a + 3 < 1200)
def dlt (κ ν : Int → Int) (a : Int) : Int := if κ a = 24 then ν (a + 1) else 0
def dmt (κ ν : Int → Int) (a : Int) : Int := if κ a = 24 then (if κ (a + 2) = 115 then ν (a + 3) else ν (a + 1)) else 0
def dlb (κ : Int → Int) (a : Int) : Int := if κ a = 24 then 1 else 0
def drw (κ : Int → Int) (a : Int) : Int := if κ a = 24 then (if κ (a + 2) = 115 then 1 else 0) else 0
def dl7 (κ ν : Int → Int) (a : Int) : Int := if κ a = 24 then ν (a + 1) else -1
def dl8 (κ ν : Int → Int) (a : Int) : Int := if κ a = 24 then (if κ (a + 2) = 115 then ν (a + 3) else ν (a + 1)) else -1
def z23 (V : vv_) (Qt : qt_) (x1 x2 r : Int) (M : mm_) : Prop := Tr_ wd0 pg0 130 108 [.inr (.inr 1), .inl 23] M (rv_ fun M5 =>
       M5 1 2 = 5 ∧
        (0 ≤ r ∧ r < 10) ∧
        V 351 [rr 1, ii x1, ii x2, ii r, ii 1, none, none] [] (up_ M5 119 r 0)) Qt
def z24 (V : vv_) (Qt : qt_) (x1 x2 r : Int) (M : mm_) : Prop := Tr_ wd0 pg0 130 103 [.inr (.inr 1), .inl 24] M (ri_ fun v3 M4 =>
     ((0 ≤ r ∧ r < 10) ∧ bl_ v3) ∧
      M4 1 2 = 5 ∧
      (0 ≤ r ∧ r < 10) ∧
      M4 1 2 = 5 ∧
      (0 ≤ r ∧ r < 10) ∧
      M4 1 2 = 5 ∧
      ((0 ≤ r ∧ r < 10) ∧ bl_ 0) ∧
      M4 1 2 = 5 ∧
      (0 ≤ r ∧ r < 10) ∧ (bl_ ((up_ M4 117 (r) v3) 117 (r)) →
      (if (up_ M4 117 (r) v3) 117 (r) = 0 then
      z23 V Qt x1 x2 r (up_ (up_ (up_ (up_ M4 117 (r) v3) 115 (r) 0) 116 (r) 0) 118 (r) 0)
     else
      Tr_ wd0 pg0 130 105 [.inr (.inr 1)] (up_ (up_ (up_ (up_ M4 117 (r) v3) 115 (r) 0) 116 (r) 0) 118 (r) 0) (rv_ fun M6 =>
       M6 1 2 = 5 ∧
        Tr_ wd0 pg0 130 124 [.inr (.inr 1), .inl 200] M6 (ri_ fun v4 M7 =>
        (0 ≤ r ∧ r < 10) ∧
         M7 1 2 = 5 ∧
         M7 1 2 = 5 ∧
         (0 ≤ r ∧ r < 10) ∧
         (0 ≤ r ∧ r < 10) ∧
         Tr_ wd0 pg0 130 103 [.inr (.inr 1), .inl 115] (up_ (up_ M7 115 (r) v4) 116 (r) ((up_ M7 115 (r) v4) 115 (r))) (ri_ fun v5 M8 =>
         (if v5 = 0 then
          z23 V Qt x1 x2 r M8
         else
          Tr_ wd0 pg0 130 105 [.inr (.inr 1)] M8 (rv_ fun M10 =>
           M10 1 2 = 5 ∧
            ((0 ≤ r ∧ r < 10) ∧ bl_ 1) ∧
            M10 1 2 = 5 ∧
            Tr_ wd0 pg0 130 124 [.inr (.inr 1), .inl 200] (up_ M10 118 (r) 1) (ri_ fun v6 M11 =>
            (0 ≤ r ∧ r < 10) ∧
             (bl_ (M11 1 8) → (if M11 1 8 = 0 then
             z23 V Qt x1 x2 r (up_ M11 116 (r) v6)
            else
             M11 1 2 = 5 ∧
              (0 ≤ r ∧ r < 10) ∧
              M11 1 2 = 5 ∧
              (0 ≤ r ∧ r < 10) ∧
              (if (up_ M11 116 (r) v6) 116 (r) < M11 115 (r) then
              Tr_ wd0 pg0 130 116 [.inr (.inr 1), .inl 6, .inl (M10 1 3)] (up_ M11 116 (r) v6) (rv_ fun M14 =>
               z23 V Qt x1 x2 r M14) Qt
             else
              z23 V Qt x1 x2 r (up_ M11 116 (r) v6))))) Qt) Qt)) Qt) Qt) Qt))) Qt
def q40 (dq : Nat) (x1 x2 v1 v2 x7 x8 x9 : Int) (N : mm_) (G : mm_ → Prop) (Qt : qt_) : Prop := ∀ V : vv_, Cl_ wd0 (Tr_ wd0 pg0 (dq + 18)) V (rv_ G) Qt m_245 → Wk_ V → V 140 [rr 6, ii x1, ii x2, jj v1, none, jj v2, none, ii x7, ii x8, ii x9, none, none, none] [] N
def q28V (dq : Nat) (x1 x2 v1 v2 : Int) (N : mm_) (V : vv_) (Qt : qt_) : Prop := Tr_ wd0 pg0 (dq + 18) 228 [.inr (.inr 6), .inl 24] N (ri_ fun v3 M5 =>
      (if v3 = 0 then
       V 140 [rr 6, ii x1, ii x2, jj v1, none, jj v2, none, ii ((-1)), ii ((-1)), ii 0, none, none, none] [] M5
      else
       Tr_ wd0 pg0 (dq + 18) 248 [.inr (.inr 6), .inl 200] M5 (ri_ fun v4 M6 =>
        Tr_ wd0 pg0 (dq + 18) 242 [.inr (.inr 6), .inl 261] M6 (ri_ fun v5 M7 =>
         (if v5 = 0 then
          V 140 [rr 6, ii x1, ii x2, jj v1, none, jj v2, none, ii v4, ii v4, ii 0, none, none, none] [] M7
         else
          (0 ≤ M7 6 12 ∧ M7 6 12 < 1202) ∧
           Tr_ wd0 pg0 (dq + 18) 248 [.inr (.inr 6), .inl 200] M7 (ri_ fun v6 M8 =>
           (if v4 ≤ v6 then
            V 140 [rr 6, ii x1, ii x2, jj v1, none, jj v2, none, ii v4, ii v6, ii 1, none, none, none] [] M8
           else
            Tr_ wd0 pg0 (dq + 18) 236 [.inr (.inr 6), .inl 6, .inl (M7 150 (M7 6 12))] M8 (rv_ fun M9 =>
             V 140 [rr 6, ii x1, ii x2, jj v1, none, jj v2, none, ii v4, ii v6, ii 1, none, none, none] [] M9) Qt)) Qt)) Qt) Qt)) Qt
def q28 (dq : Nat) (x1 x2 v1 v2 : Int) (N : mm_) (G : mm_ → Prop) (Qt : qt_) : Prop := ∀ V : vv_, Cl_ wd0 (Tr_ wd0 pg0 (dq + 18)) V (rv_ G) Qt m_245 → Wk_ V → q28V dq x1 x2 v1 v2 N V Qt
section RTb
variable {d dq : Nat} {b F r t kk tk v x1 x2 x3 x5 x7 x8 x9 x10 x11 v1 v2 y1 y2 : Int} {K : Int → mm_ → Prop} {Kv G : mm_ → Prop} {Qt Qtq : qt_} {V V' : vv_} {M N Mx' M' N' M1 N1 M2 N2 : mm_} {a a' : Int}
theorem q217_s [Inhabited gh_] (hV : Cl_ wd0 (Tr_ wd0 pg0 (dq + 18)) V' (rv_ G) Qtq m_245) (hW : Wk_ V') (hs : sp_ N) (h : G N) : V' 217 [rr 6, ii x1, ii x2, jj x3, none, jj x5, none, ii x7, ii x8, ii x9, ii x10, ii x11, none] [] N := by
  refine b_245_217 (Tr_mono _) hV hW _ _ _ _ _ _ _ _ _ _ (q_244s hs ?_)
  intro _
  rw [if_pos hs.2]
  refine q_227s hs ?_
  rw [if_neg (by decide)]; exact rv_i h
theorem q155_s [Inhabited gh_] (hV : Cl_ wd0 (Tr_ wd0 pg0 (dq + 18)) V' (rv_ G) Qtq m_245) (hW : Wk_ V') (hs : sp_ N) (h : G N) : V' 155 [rr 6, ii x1, ii x2, jj x3, none, jj x5, none, ii x7, ii x8, ii x9, ii x10, ii x11, none] [] N := by
  refine b_245_155 (Tr_mono _) hV hW _ _ _ _ _ _ _ _ _ _ ?_
  by_cases c : x11 = 0
  · rw [if_pos c]; exact q217_s hV hW hs h
  · rw [if_neg c]
    refine q_227s hs ?_
    rw [if_neg (by decide)]; exact q217_s hV hW hs h
theorem q140_s [Inhabited gh_] (hV : Cl_ wd0 (Tr_ wd0 pg0 (dq + 18)) V' (rv_ G) Qtq m_245) (hW : Wk_ V') (hs : sp_ N) (h : G N) : V' 140 [rr 6, ii x1, ii x2, jj x3, none, jj x5, none, ii x7, ii x8, ii x9, none, none, none] [] N := by
  refine b_245_140 (Tr_mono _) hV hW _ _ _ _ _ _ _ _ (q_250s hs (q155_s hV hW hs h))
theorem q28_s [Inhabited gh_] (hV : Cl_ wd0 (Tr_ wd0 pg0 (dq + 18)) V' (rv_ G) Qtq m_245) (hW : Wk_ V') (hs : sp_ N) (h : G N) : q28V dq x1 x2 v1 v2 N V' Qtq := q_228s hs (by rw [if_pos rfl]; exact q140_s hV hW hs h)
theorem q42r_s [Inhabited gh_] {v4 v5 : Int} (hV : Cl_ wd0 (Tr_ wd0 pg0 (dq + 18)) V' (rv_ G) Qtq m_245) (hW : Wk_ V') (hs : sp_ N) (hi : in9_ N) (h : G N) : (if v5 = 0 then
          V' 140 [rr 6, ii x1, ii x2, jj v1, none, jj v2, none, ii v4, ii v4, ii 0, none, none, none] [] N
         else
          (0 ≤ N 6 12 ∧ N 6 12 < 1202) ∧
           Tr_ wd0 pg0 (dq + 18) 248 [.inr (.inr 6), .inl 200] N (ri_ fun v6 M8 =>
           (if v4 ≤ v6 then
            V' 140 [rr 6, ii x1, ii x2, jj v1, none, jj v2, none, ii v4, ii v6, ii 1, none, none, none] [] M8
           else
            Tr_ wd0 pg0 (dq + 18) 236 [.inr (.inr 6), .inl 6, .inl (N 150 (N 6 12))] M8 (rv_ fun M9 =>
             V' 140 [rr 6, ii x1, ii x2, jj v1, none, jj v2, none, ii v4, ii v6, ii 1, none, none, none] [] M9) Qtq)) Qtq) := by
  by_cases c : v5 = 0
  · rw [if_pos c]; exact q140_s hV hW hs h
  · rw [if_neg c]
    refine ⟨hi, q_248s hs hi ?_⟩
    by_cases c2 : v4 ≤ 0
    · rw [if_pos c2]; exact q140_s hV hW hs h
    · rw [if_neg c2]
      refine q_236 ?_
      rw [nt_sp hs]; exact q140_s hV hW hs h
theorem q248z [Inhabited gh_] {v4 p : Int} (hV : Cl_ wd0 (Tr_ wd0 pg0 (dq + 18)) V' (rv_ G) Qtq m_245) (hW : Wk_ V') (hs : sp_ N) (h : G N) : (if v4 ≤ v then
            V' 140 [rr 6, ii x1, ii x2, jj v1, none, jj v2, none, ii v4, ii v, ii 1, none, none, none] [] N
           else
            Tr_ wd0 pg0 (dq + 18) 236 [.inr (.inr 6), .inl 6, .inl p] N (rv_ fun M9 =>
             V' 140 [rr 6, ii x1, ii x2, jj v1, none, jj v2, none, ii v4, ii v, ii 1, none, none, none] [] M9) Qtq) := by
  by_cases c2 : v4 ≤ v
  · rw [if_pos c2]; exact q140_s hV hW hs h
  · rw [if_neg c2]
    refine q_236 ?_
    rw [nt_sp hs]; exact q140_s hV hW hs h
end RTb
end T280_rt
section T281_rt
/-! routes: DELAY, walked -/
section RTc
variable {d dq : Nat} {b F r t kk tk v x1 x2 x3 x5 x7 x8 x9 x10 x11 v1 v2 y1 y2 : Int} {K : Int → mm_ → Prop} {Kv G : mm_ → Prop} {Qt Qtq : qt_} {V V' : vv_} {M N Mx' M' N' M1 N1 M2 N2 : mm_} {a a' : Int}
theorem RLF_70 [Inhabited gh_] (h : RLF b r M N M1 N1) : M1 70 = M 70 ∧ M1 73 = M 73 ∧ M1 71 = M 71 := ⟨h.1.1 70 (by decide), h.1.1 73 (by decide), h.1.1 71 (by decide)⟩
theorem cnS_o [Inhabited gh_] {κ ν : Int → Int} (h1 : κ a = 101) (h2 : ν a ≤ 200) (h3 : a < 1200) : cnS κ ν 200 a ≠ none := by
  unfold cnS gS
  rw [if_pos ⟨h1, h2⟩, if_pos h3]; exact fun e => by cases e
theorem gS_o [Inhabited gh_] (h3 : a < 1200) : gS a ≠ none := by unfold gS; rw [if_pos h3]; exact fun e => by cases e
theorem tS_o [Inhabited gh_] {κ : Int → Int} {k : Int} (h : κ a = k) (h3 : a < 1200) : tS κ k a ≠ none := by unfold tS; rw [if_pos h]; exact gS_o h3
/-- the last part: the second count, its note -/
theorem y_dl2 [Inhabited gh_] (h : RL b F M N a) (hr : 0 ≤ r ∧ r < 10) (hS : b = 1 → M 70 a = 101 ∧ M 73 a ≤ 200 ∧ a < 1200) (h115 : M 115 r = v1)
    (hK : ∀ M1 N1, RL b F M1 N1 (a + 1) → RLF b r M N M1 N1 → (M1 115 = M 115 ∧ M1 116 r = M 73 a ∧ M1 117 = M 117 ∧ M1 118 = M 118 ∧ M1 114 = M 114) → (M 70 a = 101 ∧ M 73 a ≤ 200 ∧ 0 ≤ M 73 a ∧ a < 1200) → (b = 1 → N1 6 13 = 0 → v1 ≤ M 73 a) → (∀ (V' : vv_) (Qtq : qt_) (T : Int → mm_ → Prop), T (M 73 a) N1 → (∀ v, T v (nx_ N) → T v (nx_ N)) → Tr_ wd0 pg0 (dq + 18) 248 [.inr (.inr 6), .inl 200] N (ri_ fun v6 M8 => (if v1 ≤ v6 then T v6 M8 else Tr_ wd0 pg0 (dq + 18) 236 [.inr (.inr 6), .inl 6, .inl (N 150 (N 6 12))] M8 (rv_ fun M9 => T v6 M9) Qtq)) Qtq) → z23 V Qt x1 x2 r M1)
    (hQ : b = 0 → ∀ Mx', XPb M Mx' → (∀ (Kq : Int → mm_ → Prop) (Qtq : qt_), (∀ v M', SQp Mx' N M' → Kq v M') → Tr_ wd0 pg0 (dq + 18) 248 [.inr (.inr 6), .inl 200] N (ri_ Kq) Qtq) → Qt 8 Mx') :
    Tr_ wd0 pg0 130 124 [.inr (.inr 1), .inl 200] M (ri_ fun v6 M11 =>
            (0 ≤ r ∧ r < 10) ∧
             (bl_ (M11 1 8) → (if M11 1 8 = 0 then
             z23 V Qt x1 x2 r (up_ M11 116 (r) v6)
            else
             M11 1 2 = 5 ∧
              (0 ≤ r ∧ r < 10) ∧
              M11 1 2 = 5 ∧
              (0 ≤ r ∧ r < 10) ∧
              (if (up_ M11 116 (r) v6) 116 (r) < M11 115 (r) then
              Tr_ wd0 pg0 130 116 [.inr (.inr 1), .inl 6, .inl a] (up_ M11 116 (r) v6) (rv_ fun M14 =>
               z23 V Qt x1 x2 r M14) Qt
             else
              z23 V Qt x1 x2 r (up_ M11 116 (r) v6))))) Qt := by
  have hE := h.1.2.1
  have hT := h.1.1
  have ha := ER_a hE
  have h01 := bl01 hE
  refine y_124 (dq := dq + 14) hT hE (fun hb => cnS_o (hS hb).1 (hS hb).2.1 (hS hb).2.2) (fun k1 m1 z1 h12 hE1 _ hq1 => ?_) (fun hb Mx' hx' hq' => ?_)
  rotate_left
  · exact hQ hb Mx' (XF_P hx') (fun Kq Qtq hg => hq' _ _ fun v M9 p => hg _ _ (SQ_P p))
  have R1 := RL_go h hE1
  have cm : up_ (nX_ M) 116 r (M 73 a) = nX_ (up_ M 116 r (M 73 a)) := by
    unfold nX_; rw [up_ne (by decide)]; exact up_cc (.inl (by decide))
  have hE1' : ER b F (nX_ (up_ M 116 r (M 73 a))) (nx_ N) (a + 1) 0 := by
    rw [← cm]
    exact ER_1 hE1 (up_ne (by decide)) (by rw [up_ne (by decide)]) (fun i _ => by rw [up_ne (by decide)]) (fun _ _ => rfl)
  have U := RL_up (k := 116) (i := r) (v := M 73 a) (by decide) h
  have FU : RLF b r M N (up_ M 116 r (M 73 a)) N := RLF_up (.inl ⟨by decide, rfl⟩)
  have u71 : up_ M 116 r (M 73 a) 71 = M 71 := up_ne (by decide)
  have e8 : nX_ M 1 8 = b := hE1.2.2.2.2.2.2.1
  have e12 : nX_ M 1 2 = 5 := R1.1.2.2
  have e115 : nX_ M 115 r = v1 := by rw [nX_ne (by decide)]; exact h115
  have p15 : N 150 (N 6 12) = M 71 a := by rw [hE.2.2.1]; exact ((hT a hE.1).2.1).symm
  have b7 := h.2.2
  have fin : ∀ kk : Int, (kk = if M 73 a < v1 then 6 else 0) → z23 V Qt x1 x2 r (Xn_ (nX_ (up_ M 116 r (M 73 a))) b kk a) := fun kk hkk => by
    have hk6 : kk = 0 ∨ (3 ≤ kk ∧ kk ≤ 6) := by
      by_cases c : M 73 a < v1
      · rw [if_pos c] at hkk; (clear h hr hS h115 hK hQ hE hT ha h01 k1 m1 z1 h12 hE1 hq1 R1 cm hE1' U FU u71 e8 e12 e115 p15 b7 c; omega)
      · rw [if_neg c] at hkk; (clear h hr hS h115 hK hQ hE hT ha h01 k1 m1 z1 h12 hE1 hq1 R1 cm hE1' U FU u71 e8 e12 e115 p15 b7 c; lia)
    obtain ⟨R5, f5, k5⟩ := RL_n (kk := kk) (tk := a) U hE1' hk6 (gd_c (up_ne (by decide)) hE.1)
    rw [u71] at R5 f5 k5
    have F5 := RLF_tr FU (RLN_F (r := r) f5)
    have x : ∀ k : Nat, k ≠ 1 → k ≠ 116 → Xn_ (nX_ (up_ M 116 r (M 73 a))) b kk a k = M k := fun k h1 h2 => by rw [Xn_r h1, nX_ne h1, up_ne h2]
    refine hK _ _ R5 F5 ⟨x 115 (by decide) (by decide), by rw [Xn_r (by decide), nX_ne (by decide), up_at], x 117 (by decide) (by decide), x 118 (by decide) (by decide), x 114 (by decide) (by decide)⟩ ⟨k1, m1, z1, h12⟩ (fun hb hz => by
      have k0 := k5 hb hz
      by_cases c : M 73 a < v1
      · rw [if_pos c] at hkk; omega
      · omega) (fun V' Qtq T hq _ => hq1 _ _ ?_)
    rw [p15]
    by_cases cc : v1 ≤ M 73 a
    · rw [if_pos cc]
      have k0 : kk = 0 := by rw [if_neg (by (clear h hr hS h115 hK hQ hE hT ha h01 k1 m1 z1 h12 hE1 hq1 R1 cm hE1' U FU u71 e8 e12 p15 b7 hkk hk6 R5 f5 k5 F5 x hq; omega))] at hkk; exact hkk
      have : Qn_ (nx_ N) b kk (M 71 a) = nx_ N := by unfold Qn_; rw [if_pos (.inr k0)]
      rw [this] at hq; exact hq
    · rw [if_neg cc]
      have k6 : kk = 6 := by rw [if_pos (by omega)] at hkk; exact hkk
      refine q_236 ?_
      have : Qn_ (nx_ N) b kk (M 71 a) = nt_ (nx_ N) 6 (M 71 a) := by
        unfold Qn_
        rw [k6]
        by_cases cb : b = 0
        · rw [if_pos (.inl cb)]
          unfold nt_
          rw [if_pos]
          rw [hE1.2.2.2.2.2.2.2.1]; exact cb
        · rw [if_neg (by omega)]
      rw [this] at hq; exact hq
  refine ⟨hr, fun _ => ?_⟩
  rw [e8, cm]
  rw [show (nX_ (up_ M 116 r (M 73 a))) 116 r = M 73 a by rw [nX_ne (by decide), up_at], e115]
  rcases h01 with hb | hb
  · rw [if_pos hb]
    have := fin _ rfl
    unfold Xn_ at this
    rw [if_pos (.inl hb)] at this; exact this
  · rw [if_neg (by omega)]
    refine ⟨e12, hr, e12, hr, ?_⟩
    by_cases c : M 73 a < v1
    · rw [if_pos c]
      have := fin 6 (by rw [if_pos c])
      unfold Xn_ at this
      rw [if_neg (by omega)] at this
      have f7 : nX_ (up_ M 116 r (M 73 a)) 1 7 = M 1 7 := by rw [nX_1 (by decide), up_ne (by decide)]
      exact x_116 (by omega) (by omega) (by rw [f7]; exact hE.2.2.2.2.2.2.2.2.2.2.2.1) (by rw [f7]; (clear h hr hS h115 hK hQ hE hT k1 m1 z1 hE1 hq1 R1 cm hE1' U FU u71 e8 e12 e115 p15 fin hb c this; omega)) this
    · rw [if_neg c]
      have := fin 0 (by rw [if_neg c])
      unfold Xn_ at this
      rw [if_pos (.inr rfl)] at this; exact this
end RTc
end T281_rt
section T282_rt
/-! routes: DELAY whole (X from its 103 24 | Q from its 228 24) -/
def DRW (M M1 : mm_) (r a : Int) : Prop := (M1 115 r = dlt (M 70) (M 73) a ∧ M1 116 r = dmt (M 70) (M 73) a ∧ M1 117 r = dlb (M 70) a ∧ M1 118 r = drw (M 70) a) ∧ M1 114 = M 114
section RTd
variable {d dq : Nat} {b F r t kk tk v x1 x2 x3 x5 x7 x8 x9 x10 x11 v1 v2 y1 y2 : Int} {K : Int → mm_ → Prop} {Kv G : mm_ → Prop} {Qt Qtq : qt_} {V V' : vv_} {M N Mx' M' N' M1 N1 M2 N2 : mm_} {a a' : Int}
theorem y_dly [Inhabited gh_] (h : RL b F M N a) (hr : 0 ≤ r ∧ r < 10) (hS : b = 1 → DLO (M 70) (M 73) a ∧ a < 1200)
    (hK : ∀ M1 N1, RL b F M1 N1 (dle (M 70) a) → RLF b r M N M1 N1 → DRW M M1 r a → DLO (M 70) (M 73) a → (b = 1 → N1 6 13 = 0 → dlt (M 70) (M 73) a ≤ dmt (M 70) (M 73) a) → (∀ (G : mm_ → Prop) (Qtq : qt_), q40 dq x1 x2 v1 v2 (dl7 (M 70) (M 73) a) (dl8 (M 70) (M 73) a) (drw (M 70) a) N1 G Qtq → q28 dq x1 x2 v1 v2 N G Qtq) → z23 V Qt y1 y2 r M1)
    (hQ : b = 0 → ∀ Mx', XPb M Mx' → (∀ (G : mm_ → Prop) (Qtq : qt_), (∀ M', SQp Mx' N M' → G M') → q28 dq x1 x2 v1 v2 N G Qtq) → Qt 8 Mx') :
    z24 V Qt y1 y2 r M := by
  have hE := h.1.2.1
  have hT := h.1.1
  have ha := ER_a hE
  have h01 := bl01 hE
  have m12 := h.1.2.2
  have A : ∀ w : Int, RL b F (up_ (up_ (up_ (up_ M 117 r w) 115 r 0) 116 r 0) 118 r 0) N a ∧ RLF b r M N (up_ (up_ (up_ (up_ M 117 r w) 115 r 0) 116 r 0) 118 r 0) N := fun w => ⟨RL_up (by decide) (RL_up (by decide) (RL_up (by decide) (RL_up (by decide) h))), RLF_tr (RLF_tr (RLF_tr (RLF_up (.inl ⟨by decide, rfl⟩)) (RLF_up (.inl ⟨by decide, rfl⟩))) (RLF_up (.inl ⟨by decide, rfl⟩))) (RLF_up (.inl ⟨by decide, rfl⟩))⟩
  have A7 : ∀ w : Int, (up_ (up_ (up_ (up_ M 117 r w) 115 r 0) 116 r 0) 118 r 0) 117 r = w ∧ (up_ (up_ (up_ (up_ M 117 r w) 115 r 0) 116 r 0) 118 r 0) 115 r = 0 ∧ (up_ (up_ (up_ (up_ M 117 r w) 115 r 0) 116 r 0) 118 r 0) 116 r = 0 ∧ (up_ (up_ (up_ (up_ M 117 r w) 115 r 0) 116 r 0) 118 r 0) 118 r = 0 ∧ (up_ (up_ (up_ (up_ M 117 r w) 115 r 0) 116 r 0) 118 r 0) 114 = M 114 := fun w => by
    refine ⟨?_, ?_, ?_, up_at, ?_⟩
    · rw [up_ne (by decide), up_ne (by decide), up_ne (by decide), up_at]
    · rw [up_ne (by decide), up_ne (by decide), up_at]
    · rw [up_ne (by decide), up_at]
    · rw [up_ne (by decide), up_ne (by decide), up_ne (by decide), up_ne (by decide)]
  unfold z24
  refine y_103 hE (fun k1 => ?_) (fun k1 => ?_)
  · obtain ⟨R0, F0⟩ := A 1
    obtain ⟨c7, c5, c6, c8, c4⟩ := A7 1
    refine ⟨⟨hr, .inr rfl⟩, m12, hr, m12, hr, m12, ⟨hr, .inl rfl⟩, m12, hr, fun _ => ?_⟩
    rw [up_at, if_neg (by decide)]
    generalize up_ (up_ (up_ (up_ M 117 r 1) 115 r 0) 116 r 0) 118 r 0 = M0 at *
    obtain ⟨f70, f73, f71⟩ := RLF_70 F0
    have e7 : dl7 (M 70) (M 73) a = M 73 (a + 1) := by unfold dl7; rw [if_pos k1]
    have et : dlt (M 70) (M 73) a = M 73 (a + 1) := by unfold dlt; rw [if_pos k1]
    have eb : dlb (M 70) a = 1 := by unfold dlb; rw [if_pos k1]
    have hS1 : b = 1 → (M 70 (a + 1) = 101 ∧ M 73 (a + 1) ≤ 200 ∧ 0 ≤ M 73 (a + 1) ∧ a + 1 < 1200) ∧ (M 70 (a + 2) = 115 → M 70 (a + 3) = 101 ∧ M 73 (a + 3) ≤ 200 ∧ 0 ≤ M 73 (a + 3) ∧ a + 3 < 1200) := fun hb => (hS hb).1 k1
    have hT0 := R0.1.1
    have hE0 := R0.1.2.1
    have k10 : M0 70 a = 24 := by rw [f70]; exact k1
    refine y_105 hE0 (by omega) (fun hb => gS_o (by have := hS hb; omega)) (fun h12 hE1 => ?_) (fun hb h12 => ?_)
    rotate_left
    · have hsp := SQ_bf hE hb (k := 2) (by decide) QA_rf
      refine hQ hb _ (XPb_tr (RLF_X F0) XPb_fl) (fun G Qtq hg V' hV' hW' => j_228r hT hE hb (by decide) k1 h12 ?_)
      have hsp' : SQp (flX_ M0 2 a) N (bf_ N 2 (M 71 a)) := by
        have := SQ_P (SQ_bf hE0 hb (k := 2) (by decide) (QA_rf (M := N)))
        rw [f71] at this; exact this
      rw [if_neg (by decide)]
      exact q_248s hsp'.1 hsp'.2.1 (q_242s hsp'.1 (by rw [if_pos rfl]; exact q140_s hV' hW' hsp'.1 (hg _ hsp')))
    have R1 := RL_go R0 hE1
    have F1 := RLF_tr F0 (RLN_F (r := r) (RLN_go (b := b) (M := M0) (N := N)))
    have g7 : nX_ M0 117 r = 1 ∧ nX_ M0 118 r = 0 ∧ nX_ M0 114 = M 114 := by rw [nX_ne (by decide), nX_ne (by decide), nX_ne (by decide)]; exact ⟨c7, c8, c4⟩
    have toQ : ∀ {G : mm_ → Prop} {Qtq : qt_}, (∀ V' : vv_, Cl_ wd0 (Tr_ wd0 pg0 (dq + 18)) V' (rv_ G) Qtq m_245 → Wk_ V' → Tr_ wd0 pg0 (dq + 18) 248 [.inr (.inr 6), .inl 200] (nx_ N) (ri_ fun v4 M6 =>
        Tr_ wd0 pg0 (dq + 18) 242 [.inr (.inr 6), .inl 261] M6 (ri_ fun v5 M7 =>
         (if v5 = 0 then
          V' 140 [rr 6, ii x1, ii x2, jj v1, none, jj v2, none, ii v4, ii v4, ii 0, none, none, none] [] M7
         else
          (0 ≤ M7 6 12 ∧ M7 6 12 < 1202) ∧
           Tr_ wd0 pg0 (dq + 18) 248 [.inr (.inr 6), .inl 200] M7 (ri_ fun v6 M8 =>
           (if v4 ≤ v6 then
            V' 140 [rr 6, ii x1, ii x2, jj v1, none, jj v2, none, ii v4, ii v6, ii 1, none, none, none] [] M8
           else
            Tr_ wd0 pg0 (dq + 18) 236 [.inr (.inr 6), .inl 6, .inl (M7 150 (M7 6 12))] M8 (rv_ fun M9 =>
             V' 140 [rr 6, ii x1, ii x2, jj v1, none, jj v2, none, ii v4, ii v6, ii 1, none, none, none] [] M9) Qtq)) Qtq)) Qtq) Qtq) → q28 dq x1 x2 v1 v2 N G Qtq := fun hq V' hV' hW' => j_228t hT hE (by decide) k1 h12 (by rw [if_neg (by decide)]; exact hq V' hV' hW')
    refine ⟨R1.1.2.2, ?_⟩
    generalize nX_ M0 = Ma at *
    clear F0 c7 c5 c6 c8 c4 hE0 hT0 R0 k10 f70 f73 f71
    obtain ⟨f70, f73, f71⟩ := RLF_70 F1
    refine y_124 (dq := dq + 14) R1.1.1 hE1 (fun hb => by rw [f70, f73]; exact cnS_o (hS1 hb).1.1 (hS1 hb).1.2.1 (hS1 hb).1.2.2.2) (fun n1 m1 z1 h13 hE2 _ hq1 => ?_) (fun hb Mx' hx' hq' => ?_)
    rotate_left
    · exact hQ hb Mx' (XPb_tr (RLF_X F1) (XF_P hx')) (fun G Qtq hg => toQ fun V' hV' hW' => hq' _ _ fun v M9 p => q_242s p.1 (by
        rw [if_pos rfl]
        exact q140_s hV' hW' p.1 (hg _ (SQp_tr QPb_nx (SQ_P p)))))
    rw [f73] at m1 z1 hq1 ⊢
    rw [f70] at n1
    have R2 := RL_go R1 hE2
    have F2 := RLF_tr F1 (RLN_F (r := r) (RLN_go (b := b) (M := Ma) (N := nx_ N)))
    refine ⟨hr, R2.1.2.2, R2.1.2.2, hr, hr, ?_⟩
    rw [up_at]
    have R3 : RL b F (up_ (up_ (nX_ Ma) 115 r (M 73 (a + 1))) 116 r (M 73 (a + 1))) (nx_ (nx_ N)) (a + 1 + 1) := RL_up (by decide) (RL_up (by decide) R2)
    have F3 : RLF b r M N (up_ (up_ (nX_ Ma) 115 r (M 73 (a + 1))) 116 r (M 73 (a + 1))) (nx_ (nx_ N)) := RLF_tr (RLF_tr F2 (RLF_up (.inl ⟨by decide, rfl⟩))) (RLF_up (.inl ⟨by decide, rfl⟩))
    have c5 : (up_ (up_ (nX_ Ma) 115 r (M 73 (a + 1))) 116 r (M 73 (a + 1))) 115 r = M 73 (a + 1) := by rw [up_ne (by decide), up_at]
    have c6 : (up_ (up_ (nX_ Ma) 115 r (M 73 (a + 1))) 116 r (M 73 (a + 1))) 116 r = M 73 (a + 1) := up_at
    have c7 : (up_ (up_ (nX_ Ma) 115 r (M 73 (a + 1))) 116 r (M 73 (a + 1))) 117 r = 1 := by rw [up_ne (by decide), up_ne (by decide), nX_ne (by decide)]; exact g7.1
    have c8 : (up_ (up_ (nX_ Ma) 115 r (M 73 (a + 1))) 116 r (M 73 (a + 1))) 118 r = 0 := by rw [up_ne (by decide), up_ne (by decide), nX_ne (by decide)]; exact g7.2.1
    have c4 : (up_ (up_ (nX_ Ma) 115 r (M 73 (a + 1))) 116 r (M 73 (a + 1))) 114 = M 114 := by rw [up_ne (by decide), up_ne (by decide), nX_ne (by decide)]; exact g7.2.2
    generalize up_ (up_ (nX_ Ma) 115 r (M 73 (a + 1))) 116 r (M 73 (a + 1)) = Mb at *
    clear g7 R2 F2 hE1 R1 F1 f70 f73 f71 hE2
    obtain ⟨f70, f73, f71⟩ := RLF_70 F3
    have hE3 := R3.1.2.1
    have hT3 := R3.1.1
    have e12 : a + 1 + 1 = a + 2 := by omega
    rw [e12] at R3 hE3
    refine y_103 hE3 (fun k2 => ?_) (fun k2 => ?_)
    · rw [if_neg (by decide)]
      have k2' : M 70 (a + 2) = 115 := by rw [← f70]; exact k2
      have e8 : dl8 (M 70) (M 73) a = M 73 (a + 3) := by unfold dl8; rw [if_pos k1, if_pos k2']
      have em : dmt (M 70) (M 73) a = M 73 (a + 3) := by unfold dmt; rw [if_pos k1, if_pos k2']
      have ew : drw (M 70) a = 1 := by unfold drw; rw [if_pos k1, if_pos k2']
      have ee : dle (M 70) a = a + 4 := by unfold dle; rw [if_pos k1, if_pos k2']
      have hS2 : b = 1 → M 70 (a + 3) = 101 ∧ M 73 (a + 3) ≤ 200 ∧ 0 ≤ M 73 (a + 3) ∧ a + 3 < 1200 := fun hb => (hS1 hb).2 k2'
      refine y_105 hE3 (by (clear h hr hS hK hQ hE hT ha h01 m12 A A7 k1 e7 et eb hS1 h12 toQ n1 m1 z1 h13 hq1 R3 F3 c5 c6 c7 c8 c4 f70 f73 f71 hE3 hT3 e12 k2' e8 em ew ee hS2; omega)) (fun hb => gS_o (by have := hS2 hb; (clear h hr hS hK hQ hE hT h01 m12 A A7 k1 e7 et eb hS1 toQ n1 m1 z1 hq1 R3 F3 c5 c6 c7 c8 c4 f70 f73 f71 hE3 hT3 e12 k2 k2' e8 em ew hS2 hb; omega))) (fun h14 hE4 => ?_) (fun hb h14 => ?_)
      rotate_left
      · have hsp := SQ_P (SQ_bf hE3 hb (k := 2) (by decide) (QA_rf (M := nx_ (nx_ N))))
        refine hQ hb _ (XPb_tr (RLF_X F3) XPb_fl) (fun G Qtq hg => toQ fun V' hV' hW' => hq1 _ _ (j_242r hT3 hE3 hb (by decide) k2 h14 ?_))
        exact q42r_s hV' hW' hsp.1 hsp.2.1 (hg _ (SQp_tr (QPb_tr QPb_nx QPb_nx) hsp))
      have R4 := RL_go R3 hE4
      have F4 := RLF_tr F3 (RLN_F (r := r) (RLN_go (b := b) (M := Mb) (N := nx_ (nx_ N))))
      have e13 : nX_ Mb 1 3 = a + 3 := by have := hE4.2.1; (clear h hr hS hK hQ hE hT ha h01 m12 A A7 k1 e7 et eb hS1 h12 toQ n1 m1 z1 h13 hq1 R3 F3 c5 c6 c7 c8 c4 f70 f73 f71 hE3 hT3 e12 k2 k2' e8 em ew hS2 h14 hE4 R4 F4; lia)
      have e612 : nx_ (nx_ (nx_ N)) 6 12 = a + 3 := by have := hE4.2.2.1; (clear h hr hS hK hQ hE hT ha h01 m12 A A7 k1 e7 et eb hS1 h12 toQ n1 m1 z1 h13 hq1 R3 F3 c5 c6 c7 c8 c4 f70 f73 f71 hE3 hT3 e12 k2 k2' e8 em ew hS2 h14 hE4 R4 F4; omega)
      rw [e13]
      refine ⟨R4.1.2.2, ⟨hr, .inr rfl⟩, R4.1.2.2, ?_⟩
      have R5 : RL b F (up_ (nX_ Mb) 118 r 1) (nx_ (nx_ (nx_ N))) (a + 3) := by
        have := RL_up (k := 118) (i := r) (v := 1) (by decide) R4
        rw [show a + 2 + 1 = a + 3 by omega] at this; exact this
      have F5 : RLF b r M N (up_ (nX_ Mb) 118 r 1) (nx_ (nx_ (nx_ N))) := RLF_tr F4 (RLF_up (.inl ⟨by decide, rfl⟩))
      have g5 : up_ (nX_ Mb) 118 r 1 115 r = M 73 (a + 1) := by rw [up_ne (by decide), nX_ne (by decide)]; exact c5
      have g7 : up_ (nX_ Mb) 118 r 1 117 r = 1 := by rw [up_ne (by decide), nX_ne (by decide)]; exact c7
      have g8 : up_ (nX_ Mb) 118 r 1 118 r = 1 := up_at
      have g4 : up_ (nX_ Mb) 118 r 1 114 = M 114 := by rw [up_ne (by decide), nX_ne (by decide)]; exact c4
      generalize up_ (nX_ Mb) 118 r 1 = Mc at *
      obtain ⟨f70', f73', f71'⟩ := RLF_70 F5
      have toQ2 : ∀ {G : mm_ → Prop} {Qtq : qt_}, (∀ V' : vv_, Cl_ wd0 (Tr_ wd0 pg0 (dq + 18)) V' (rv_ G) Qtq m_245 → Wk_ V' → Tr_ wd0 pg0 (dq + 18) 248 [.inr (.inr 6), .inl 200] (nx_ (nx_ (nx_ N))) (ri_ fun v6 M8 =>
           (if M 73 (a + 1) ≤ v6 then
            V' 140 [rr 6, ii x1, ii x2, jj v1, none, jj v2, none, ii (M 73 (a + 1)), ii v6, ii 1, none, none, none] [] M8
           else
            Tr_ wd0 pg0 (dq + 18) 236 [.inr (.inr 6), .inl 6, .inl (nx_ (nx_ (nx_ N)) 150 (nx_ (nx_ (nx_ N)) 6 12))] M8 (rv_ fun M9 =>
             V' 140 [rr 6, ii x1, ii x2, jj v1, none, jj v2, none, ii (M 73 (a + 1)), ii v6, ii 1, none, none, none] [] M9) Qtq)) Qtq) → q28 dq x1 x2 v1 v2 N G Qtq := fun hq => toQ fun V' hV' hW' => hq1 _ _ (j_242t hT3 hE3 (by decide) k2 h14 (by
          rw [if_neg (by decide)]
          exact ⟨by (clear h hr hS hK hQ hE hT h01 m12 A A7 k1 e7 et eb hS1 toQ n1 m1 z1 hq1 R3 F3 c5 c6 c7 c8 c4 f70 f73 f71 hE3 hT3 e12 k2 k2' e8 em ew hS2 hE4 R4 F4 R5 F5 g5 g7 g8 g4 f70' f73' f71' hq hV' hW'; omega), hq V' hV' hW'⟩))
      refine y_dl2 (dq := dq) (v1 := M 73 (a + 1)) R5 hr (fun hb => by rw [f70', f73']; have := hS2 hb; (clear h hr hS hK hQ hE hT h01 m12 A A7 k1 e7 et eb hS1 toQ n1 m1 z1 hq1 R3 F3 c5 c6 c7 c8 c4 f70 f73 f71 hE3 hT3 e12 k2 k2' e8 ew hS2 hE4 R4 F4 R5 F5 g5 g7 g8 g4 f70' f73' f71' toQ2 hb; lia)) g5 (fun M1 N1 R6 F6 w6 o6 l6 hq6 => ?_) (fun hb Mx' hx' hq' => ?_)
      · rw [f73'] at w6 hq6 l6
        rw [f70', f73'] at o6
        refine hK M1 N1 (by rw [ee, show a + 4 = a + 3 + 1 by omega]; exact R6) (RLF_tr F5 F6) ⟨⟨by rw [w6.1, et]; exact g5, by rw [em]; exact w6.2.1, by rw [w6.2.2.1, eb]; exact g7, by rw [w6.2.2.2.1, ew]; exact g8⟩, by rw [w6.2.2.2.2]; exact g4⟩ (fun _ => ⟨⟨n1, m1, z1, h13⟩, fun _ => o6⟩) (fun hb hz => by rw [et, em]; exact l6 hb hz) (fun G Qtq hq => toQ2 fun V' hV' hW' => ?_)
        refine hq6 V' Qtq (fun v6 M8 => V' 140 [rr 6, ii x1, ii x2, jj v1, none, jj v2, none, ii (M 73 (a + 1)), ii v6, ii 1, none, none, none] [] M8) ?_ (fun _ h => h)
        have := hq V' hV' hW'
        rw [e7, e8, ew] at this; exact this
      · exact hQ hb Mx' (XPb_tr (RLF_X F5) hx') (fun G Qtq hg => toQ2 fun V' hV' hW' => hq' _ _ fun v M9 p => q248z hV' hW' p.1 (hg _ (SQp_tr (QPb_tr (QPb_tr QPb_nx QPb_nx) QPb_nx) p)))
    · rw [if_pos rfl]
      have k2' : ¬ M 70 (a + 2) = 115 := by rw [← f70]; exact k2
      have e8 : dl8 (M 70) (M 73) a = M 73 (a + 1) := by unfold dl8; rw [if_pos k1, if_neg k2']
      have em : dmt (M 70) (M 73) a = M 73 (a + 1) := by unfold dmt; rw [if_pos k1, if_neg k2']
      have ew : drw (M 70) a = 0 := by unfold drw; rw [if_pos k1, if_neg k2']
      have ee : dle (M 70) a = a + 2 := by unfold dle; rw [if_pos k1, if_neg k2']
      refine hK Mb _ (by rw [ee]; exact R3) F3 ⟨⟨by rw [et]; exact c5, by rw [em]; exact c6, by rw [eb]; exact c7, by rw [ew]; exact c8⟩, c4⟩ (fun _ => ⟨⟨n1, m1, z1, h13⟩, fun e => absurd e k2'⟩) (fun _ _ => by rw [et, em]; exact Int.le_refl _) (fun G Qtq hq => toQ fun V' hV' hW' => hq1 _ _ (j_242f hT3 hE3 (by decide) k2 ?_))
      rw [if_pos rfl]
      have := hq V' hV' hW'
      rw [e7, e8, ew] at this; exact this
  · obtain ⟨R0, F0⟩ := A 0
    obtain ⟨c7, c5, c6, c8, c4⟩ := A7 0
    refine ⟨⟨hr, .inl rfl⟩, m12, hr, m12, hr, m12, ⟨hr, .inl rfl⟩, m12, hr, fun _ => ?_⟩
    rw [up_at, if_pos rfl]
    have e7 : dl7 (M 70) (M 73) a = -1 := by unfold dl7; rw [if_neg k1]
    have e8 : dl8 (M 70) (M 73) a = -1 := by unfold dl8; rw [if_neg k1]
    have ew : drw (M 70) a = 0 := by unfold drw; rw [if_neg k1]
    have ee : dle (M 70) a = a := by unfold dle; rw [if_neg k1]
    refine hK _ N (by rw [ee]; exact R0) F0 ⟨⟨?_, ?_, ?_, ?_⟩, c4⟩ (fun e => absurd e k1) (fun _ _ => by unfold dlt dmt; rw [if_neg k1, if_neg k1]; exact Int.le_refl _) (fun G Qtq hq V' hV' hW' => j_228f hT hE (by decide) k1 ?_)
    · unfold dlt; rw [if_neg k1]; exact c5
    · unfold dmt; rw [if_neg k1]; exact c6
    · unfold dlb; rw [if_neg k1]; exact c7
    · rw [ew]; exact c8
    · rw [if_pos rfl]
      have := hq V' hV' hW'
      rw [e7, e8, ew] at this; exact this
end RTd
end T282_rt
section T283_rt
/-! routes: the list of signals (X 122 V 351 | Q 245 V 155) -/
def LST (κ : Int → Int) : Nat → Int → Prop
  | 0, _ => False
  | m + 1, a => (κ a = 100 ∧ a + 1 < 1200) ∧ ((κ (a + 1) = 259 ∧ m = 0) ∨ (κ (a + 1) = 244 ∧ LST κ m (a + 2)))
def lsb (N : mm_) (a w : Int) : Int := if sgl N (N 151 a) = -1 then w else or_ w (sl_ 1 (sgl N (N 151 a)))
def lsv (N : mm_) : Nat → Int → Int → Int
  | 0, _, w => w
  | m + 1, a, w => lsv N m (a + 2) (lsb N a w)
def rqw (N : mm_) (r t v1 v2 x7 x8 x9 x10 : Int) : mm_ := up_ (up_ (up_ (up_ (up_ (up_ (up_ (up_ N 153 r (N 151 t)) 158 r v1) 159 r v2) 162 r x7) 163 r x8) 166 r x9) 165 r x10) 6 18 (N 6 18 + 1)
def q55 (dq : Nat) (r t v1 v2 x7 x8 x9 x10 : Int) (N : mm_) (G : mm_ → Prop) (Qt : qt_) : Prop := ∀ V : vv_, Cl_ wd0 (Tr_ wd0 pg0 (dq + 18)) V (rv_ G) Qt m_245 → Wk_ V → V 155 [rr 6, ii r, ii t, jj v1, none, jj v2, none, ii x7, ii x8, ii x9, ii x10, ii 1, none] [] N
section RTe
variable {d dq : Nat} {b F r t kk tk v x1 x2 x3 x5 x7 x8 x9 x10 x11 v1 v2 y1 y2 : Int} {K : Int → mm_ → Prop} {Kv G : mm_ → Prop} {Qt Qtq : qt_} {V V' : vv_} {M N Mx' M' N' M1 N1 M2 N2 : mm_} {a a' : Int}
theorem lsv_e [Inhabited gh_] (hs : sgl N1 = sgl N) (h151 : N1 151 = N 151) : ∀ (m : Nat) (a w : Int), lsv N1 m a w = lsv N m a w
  | 0, _, _ => rfl
  | m + 1, a, w => by
    unfold lsv
    rw [lsv_e hs h151 m, show lsb N1 a w = lsb N a w by unfold lsb; rw [hs, h151]]
theorem LST_u [Inhabited gh_] {κ : Int → Int} : ∀ (m m' : Nat) (a : Int), LST κ m a → LST κ m' a → m = m'
  | 0, _, _, h, _ => h.elim
  | _ + 1, 0, _, _, h => h.elim
  | m + 1, m' + 1, a, h, h' => by
    rcases h.2 with c | c
    · rcases h'.2 with c' | c'
      · (clear h h'; lia)
      · omega
    · rcases h'.2 with c' | c'
      · omega
      · rw [LST_u m m' (a + 2) c.2 c'.2]
theorem RLF_s [Inhabited gh_] (h : RLF b r M N M1 N1) : sgl N1 = sgl N ∧ N1 151 = N 151 ∧ tpl N1 = tpl N := ⟨sgl_e (h.2.2.1 17 (by decide)) (h.2.1 152 (by decide)), h.2.1 151 (by decide), tpl_e (h.2.2.1 19 (by decide)) (h.2.1 154 (by decide))⟩
theorem l_351 [Inhabited gh_] (hV : Cl_ wd0 (Tr_ wd0 pg0 130) V (rv_ Kv) Qt m_122) (hW : Wk_ V) (hr : 0 ≤ r ∧ r < 10) (hr1 : 0 ≤ x1 ∧ x1 < 10) (h9 : bl_ x9) (ht : 0 ≤ t ∧ t < 1202) : ∀ (n : Nat) (a : Int) (M N : mm_), 1201 - a ≤ (n : Int) → RL b F M N a → (b = 1 → ∃ m, LST (M 70) m a) → (b = 0 → 0 ≤ N 6 18 ∧ N 6 18 < 10)
    → (hK : ∀ M1 N1 a' m, RL b F M1 N1 a' → RLF b r M N M1 N1 → (M1 114 = M 114 ∧ M1 115 = M 115 ∧ M1 116 = M 116 ∧ M1 117 = M 117 ∧ M1 118 = M 118) → M1 119 r = lsv N m a (M 119 r) → LST (M 70) m a → a' = a + 2 * m → (∀ (G : mm_ → Prop) (Qtq : qt_), (b = 0 → G (rqw N1 x1 t v1 v2 x7 x8 x9 x10)) → (b = 1 → G N1) → q55 dq x1 t v1 v2 x7 x8 x9 x10 N G Qtq) → Kv M1)
    → (hQ : b = 0 → ∀ Mx', XPb M Mx' → (∀ (G : mm_ → Prop) (Qtq : qt_), (∀ M', SQp Mx' N M' → G M') → q55 dq x1 t v1 v2 x7 x8 x9 x10 N G Qtq) → Qt 8 Mx')
    → V 351 [rr 1, ii y1, ii y2, ii r, ii 1, none, none] [] M
  | n, a, M, N, hn, h, hS, h18, hK, hQ => by
    have hE := h.1.2.1
    have hT := h.1.1
    have ha := ER_a hE
    have h01 := bl01 hE
    refine b_122_351 (Tr_mono _) hV hW _ _ _ _ _ ?_
    rw [if_neg (by decide)]
    have hS1 : b = 1 → M 70 a = 100 ∧ a + 1 < 1200 := fun hb => by
      obtain ⟨m, hm⟩ := hS hb
      cases m with
      | zero => exact hm.elim
      | succ m => exact hm.1
    have toQ : ∀ {G : mm_ → Prop} {Qtq : qt_}, (∀ V' : vv_, Cl_ wd0 (Tr_ wd0 pg0 (dq + 18)) V' (rv_ G) Qtq m_245 → Wk_ V' → Tr_ wd0 pg0 (dq + 18) 233 [.inr (.inr 6)] N (ri_ fun v2' M2 =>
     (bl_ (M2 6 16) → (if M2 6 16 = 0 then
      V' 206 [rr 6, ii x1, ii t, jj v1, none, jj v2, none, ii x7, ii x8, ii x9, ii x10, ii 1, ii v2'] [] M2
     else
      (0 ≤ v2' ∧ v2' < 1202) ∧
       Tr_ wd0 pg0 (dq + 18) 251 [.inr (.inr 6), .inr (.inl (M2 151 v2'))] M2 (ri_ fun v3 M3 =>
       (if v3 < 0 then
        (0 ≤ v2' ∧ v2' < 1202) ∧
         Tr_ wd0 pg0 (dq + 18) 236 [.inr (.inr 6), .inl 4, .inl (M3 150 v2')] M3 (rv_ fun M4 =>
         V' 206 [rr 6, ii x1, ii t, jj v1, none, jj v2, none, ii x7, ii x8, ii x9, ii x10, ii 1, ii v2'] [] M4) Qtq
       else
        V' 206 [rr 6, ii x1, ii t, jj v1, none, jj v2, none, ii x7, ii x8, ii x9, ii x10, ii 1, ii v2'] [] M3)) Qtq))) Qtq) → q55 dq x1 t v1 v2 x7 x8 x9 x10 N G Qtq := fun hq V' hV' hW' => b_245_155 (Tr_mono _) hV' hW' _ _ _ _ _ _ _ _ _ _ (by
        rw [if_neg (by decide)]
        refine q_227g (ER_goq hE) ?_
        rw [if_pos rfl]
        exact hq V' hV' hW')
    have st206 : ∀ {G : mm_ → Prop} {Qtq : qt_} {V' : vv_} {N' : mm_} {y : Int}, Cl_ wd0 (Tr_ wd0 pg0 (dq + 18)) V' (rv_ G) Qtq m_245 → Wk_ V' → sp_ N' → G N' → V' 206 [rr 6, ii x1, ii t, jj v1, none, jj v2, none, ii x7, ii x8, ii x9, ii x10, ii 1, ii y] [] N' := fun hV' hW' hs hg => b_245_206 (Tr_mono _) hV' hW' _ _ _ _ _ _ _ _ _ _ _ (q_242s hs (q155_s hV' hW' hs hg))
    refine y_107 hE (fun hb => tS_o (hS1 hb).1 (by have := hS1 hb; (clear hV hW hr hr1 h9 ht hn h hS h18 hK hQ hE hT h01 hS1 toQ st206 hb; omega))) (fun k1 h12 hE1 => ?_) (fun hb k1 h12 => ?_) (fun hb k1 => ?_)
    rotate_left
    · have hsp := SQ_bf hE hb (k := 2) (by decide) QA_rf
      exact hQ hb _ XPb_fl (fun G Qtq hg => toQ fun V' hV' hW' => j_233r hT hE hb k1 h12 (fun _ => by rw [if_pos hsp.1.2]; exact st206 hV' hW' hsp.1 (hg _ (SQ_P hsp))))
    · have hsp := SQ_bf hE hb (k := 1) (by decide) QA_rf
      exact hQ hb _ XPb_fl (fun G Qtq hg => toQ fun V' hV' hW' => j_233w hT hE hb k1 (fun _ => by rw [if_pos hsp.1.2]; exact st206 hV' hW' hsp.1 (hg _ (SQ_P hsp))))
    have R1 := RL_go h hE1
    have nmt : nm9_ (nX_ M) a := ⟨gd_c (nX_ne (by decide)) hE.1, by rw [nX_ne (by decide)]; exact k1⟩
    have e16 : nx_ N 6 16 = b := hE1.2.2.2.2.2.2.2.1
    have e8 : nX_ M 1 8 = b := hE1.2.2.2.2.2.2.1
    have q151 : nx_ N 151 = N 151 := nx_ne (by decide)
    have sge : sgl (nx_ N) = sgl N := sgl_e (nx_6 (by decide)) (nx_ne (by decide))
    have p15 : nx_ N 150 a = M 71 a := by rw [nx_ne (by decide)]; exact ((hT a hE.1).2.1).symm
    have sr : sgl N (N 151 a) = -1 ∨ (0 ≤ sgl N (N 151 a) ∧ sgl N (N 151 a) < 20) := by
      have c0 := h.2.1.1.1
      unfold sgl
      rcases fi_r (fun i => N 152 i) (N 151 a) (N 6 17).toNat 0 with e | e
      · exact .inl e
      · right; (clear hV hW hr hr1 h9 ht hn h hS h18 hK hQ hE hT ha h01 hS1 toQ st206 k1 h12 hE1 R1 nmt e16 e8 q151 sge p15; omega)
    have b7 := R1.2.2
    -- behind the name
    have fin : ∀ Ma Na, RL b F Ma Na (a + 1) → RLN b M N Ma Na → (∀ (G : mm_ → Prop) (Qtq : qt_), (∀ V' : vv_, Cl_ wd0 (Tr_ wd0 pg0 (dq + 18)) V' (rv_ G) Qtq m_245 → Wk_ V' → V' 206 [rr 6, ii x1, ii t, jj v1, none, jj v2, none, ii x7, ii x8, ii x9, ii x10, ii 1, ii a] [] Na) → q55 dq x1 t v1 v2 x7 x8 x9 x10 N G Qtq) → V 390 [rr 1, ii y1, ii y2, ii r, ii 1, ii a, ii (sgl N (N 151 a))] [] Ma := fun Ma Na Ra fa hqa => by
      have Fa := RLN_F (r := r) fa
      have a119 : Ma 119 = M 119 := fa.1.1 119 (by decide)
      -- with the bit
      have tail : ∀ Mb, RL b F Mb Na (a + 1) → RLF b r M N Mb Na → (Mb 114 = M 114 ∧ Mb 115 = M 115 ∧ Mb 116 = M 116 ∧ Mb 117 = M 117 ∧ Mb 118 = M 118) → Mb 119 r = lsb N a (M 119 r) → Tr_ wd0 pg0 130 117 [.inr (.inr 1), .inl 44] Mb (ri_ fun w1 M1 =>
   (if w1 = 0 then
    V 351 [rr 1, ii y1, ii y2, ii r, ii w1, none, none] [] M1
   else
    Tr_ wd0 pg0 130 105 [.inr (.inr 1)] M1 (rv_ fun M2 =>
     V 351 [rr 1, ii y1, ii y2, ii r, ii w1, none, none] [] M2) Qt)) Qt := fun Mb Rb Fb rb bb => by
        have hEb := Rb.1.2.1
        have hTb := Rb.1.1
        obtain ⟨f70, f73, f71⟩ := RLF_70 Fb
        obtain ⟨s1, s2, _⟩ := RLF_s Fb
        refine y_117 hEb (by decide) (fun k2 => ?_) (fun k2 => ?_)
        · rw [if_neg (by decide)]
          have k2' : M 70 (a + 1) = 244 := by rw [← f70]; exact k2
          refine y_105 hEb (by rw [f70, k2']; decide) (fun hb => gS_o (hS1 hb).2) (fun h13 hE2 => ?_) (fun hb h13 => ?_)
          · cases n with
            | zero => (clear hV hW hr hr1 h9 ht h hS h18 hK hQ hE hT h01 hS1 toQ st206 k1 hE1 R1 nmt e16 e8 q151 sge p15 sr b7 Ra fa hqa Fa a119 Rb Fb rb bb hEb hTb f70 f73 f71 s1 s2 k2 k2' hE2; omega)
            | succ n' =>
              have R2 := RL_go Rb hE2
              have g2 : RLN b Mb Na (nX_ Mb) (nx_ Na) := RLN_go
              have F2 := RLF_tr Fb (RLN_F (r := r) g2)
              obtain ⟨t1, t2, _⟩ := RLF_s F2
              have x70 : nX_ Mb 70 = M 70 := (RLF_70 F2).1
              have e119 : nX_ Mb 119 r = lsb N a (M 119 r) := by rw [nX_ne (by decide)]; exact bb
              rw [show a + 1 + 1 = a + 2 by omega] at R2
              refine l_351 hV hW hr hr1 h9 ht n' (a + 2) (nX_ Mb) (nx_ Na) (by omega) R2 (fun hb => ?_) (fun hb => by rw [F2.2.2.1 18 (by decide)]; exact h18 hb) (fun M1 N1 a' m R3 F3 w3 v3 o3 a3 hq3 => ?_) (fun hb Mx' hx' hq' => ?_)
              · obtain ⟨m, hm⟩ := hS hb
                cases m with
                | zero => exact hm.elim
                | succ m =>
                  rcases hm.2 with c | c
                  · (clear hV hW hr hr1 h9 ht h hS h18 hK hQ hE hT ha h01 hS1 toQ st206 k1 h12 hE1 R1 nmt e16 e8 q151 sge p15 sr b7 Ra fa hqa Fa a119 Rb Fb rb bb hEb hTb f70 f73 f71 s1 s2 k2 h13 hE2 hn R2 g2 F2 t1 t2 x70 e119 hb hm; lia)
                  · exact ⟨m, by rw [x70]; exact c.2⟩
              · rw [x70] at o3
                rw [lsv_e t1 t2, e119] at v3
                have xx : ∀ k : Nat, k ≠ 1 → nX_ Mb k = Mb k := fun k hk => nX_ne hk
                refine hK M1 N1 a' (m + 1) R3 (RLF_tr F2 F3) ⟨by rw [w3.1, xx 114 (by decide)]; exact rb.1, by rw [w3.2.1, xx 115 (by decide)]; exact rb.2.1, by rw [w3.2.2.1, xx 116 (by decide)]; exact rb.2.2.1, by rw [w3.2.2.2.1, xx 117 (by decide)]; exact rb.2.2.2.1, by rw [w3.2.2.2.2, xx 118 (by decide)]; exact rb.2.2.2.2⟩ v3 ⟨⟨k1, h13⟩, .inr ⟨k2', o3⟩⟩ (by rw [a3]; (clear hV hW hr hr1 h9 ht h hS h18 hK hQ hE hT ha h01 hS1 toQ st206 k1 h12 hE1 R1 nmt e16 e8 q151 sge p15 sr b7 Ra fa hqa Fa a119 Rb Fb rb bb hEb hTb f70 f73 f71 s1 s2 k2 k2' h13 hE2 hn R2 g2 F2 t1 t2 x70 e119 R3 F3 w3 v3 o3 a3 hq3 xx; lia)) (fun G Qtq g0 g1 => hqa G Qtq fun V' hV' hW' => b_245_206 (Tr_mono _) hV' hW' _ _ _ _ _ _ _ _ _ _ _ (j_242t hTb hEb (by decide) k2 h13 ?_))
                exact hq3 G Qtq g0 g1 V' hV' hW'
              · exact hQ hb Mx' (XPb_tr (RLF_X F2) hx') (fun G Qtq hg => hqa G Qtq fun V' hV' hW' => b_245_206 (Tr_mono _) hV' hW' _ _ _ _ _ _ _ _ _ _ _ (j_242t hTb hEb (by decide) k2 h13 (hq' G Qtq (fun M9 p => hg _ (SQp_tr (RLF_Q F2) p)) V' hV' hW')))
          · have hsp := SQ_bf hEb hb (k := 2) (by decide) QA_rf
            exact hQ hb _ (XPb_tr (RLF_X Fb) XPb_fl) (fun G Qtq hg => hqa G Qtq fun V' hV' hW' => b_245_206 (Tr_mono _) hV' hW' _ _ _ _ _ _ _ _ _ _ _ (j_242r hTb hEb hb (by decide) k2 h13 (q155_s hV' hW' hsp.1 (hg _ (SQp_tr (RLF_Q Fb) (SQ_P hsp))))))
        · rw [if_pos rfl]
          refine b_122_351 (Tr_mono _) hV hW _ _ _ _ _ ?_
          rw [if_pos rfl]
          have k2' : ¬ M 70 (a + 1) = 244 := by rw [← f70]; exact k2
          have toQ1 : ∀ {G : mm_ → Prop} {Qtq : qt_}, (∀ V' : vv_, Cl_ wd0 (Tr_ wd0 pg0 (dq + 18)) V' (rv_ G) Qtq m_245 → Wk_ V' → Tr_ wd0 pg0 (dq + 18) 244 [.inr (.inr 6), .inl 59] Na (rv_ fun M1 =>
  (bl_ (M1 6 16) → (if M1 6 16 = 0 then
   Tr_ wd0 pg0 (dq + 18) 227 [.inr (.inr 6)] M1 (ri_ fun w1 M2 =>
    (if w1 = 0 then
     (0 ≤ t ∧ t < 1202) ∧
      (0 ≤ x1 ∧ x1 < 10) ∧
      (0 ≤ x1 ∧ x1 < 10) ∧
      (0 ≤ x1 ∧ x1 < 10) ∧
      (0 ≤ x1 ∧ x1 < 10) ∧
      (0 ≤ x1 ∧ x1 < 10) ∧
      ((0 ≤ x1 ∧ x1 < 10) ∧ bl_ x9) ∧
      (0 ≤ x1 ∧ x1 < 10) ∧
      rv_ G [] (up_ (up_ (up_ (up_ (up_ (up_ (up_ (up_ M2 153 x1 (M2 151 t)) 158 x1 v1) 159 x1 v2) 162 x1 x7) 163 x1 x8) 166 x1 x9) 165 x1 x10) 6 18 (w32 ((M2 6 18) + 1)))
    else
     rv_ G [] M2)) Qtq
  else
   rv_ G [] M1))) Qtq) → q55 dq x1 t v1 v2 x7 x8 x9 x10 N G Qtq := fun {G Qtq} hq => hqa G Qtq fun V' hV' hW' => b_245_206 (Tr_mono _) hV' hW' _ _ _ _ _ _ _ _ _ _ _ (j_242f hTb hEb (by decide) k2 (b_245_155 (Tr_mono _) hV' hW' _ _ _ _ _ _ _ _ _ _ (by
            rw [if_pos rfl]
            exact b_245_217 (Tr_mono _) hV' hW' _ _ _ _ _ _ _ _ _ _ (hq V' hV' hW'))))
          have sfin : ∀ {G : mm_ → Prop} {Qtq : qt_} {N' : mm_}, sp_ N' → G N' → (bl_ (N' 6 16) → (if N' 6 16 = 0 then
   Tr_ wd0 pg0 (dq + 18) 227 [.inr (.inr 6)] N' (ri_ fun w1 M2 =>
    (if w1 = 0 then
     (0 ≤ t ∧ t < 1202) ∧
      (0 ≤ x1 ∧ x1 < 10) ∧
      (0 ≤ x1 ∧ x1 < 10) ∧
      (0 ≤ x1 ∧ x1 < 10) ∧
      (0 ≤ x1 ∧ x1 < 10) ∧
      (0 ≤ x1 ∧ x1 < 10) ∧
      ((0 ≤ x1 ∧ x1 < 10) ∧ bl_ x9) ∧
      (0 ≤ x1 ∧ x1 < 10) ∧
      rv_ G [] (up_ (up_ (up_ (up_ (up_ (up_ (up_ (up_ M2 153 x1 (M2 151 t)) 158 x1 v1) 159 x1 v2) 162 x1 x7) 163 x1 x8) 166 x1 x9) 165 x1 x10) 6 18 (w32 ((M2 6 18) + 1)))
    else
     rv_ G [] M2)) Qtq
  else
   rv_ G [] N')) := fun hs hg _ => by
            rw [if_pos hs.2]
            refine q_227s hs ?_
            rw [if_neg (by decide)]; exact rv_i hg
          refine y_121 hEb (by decide) (fun hb => ?_) (fun k3 h13 hE2 => ?_) (fun hb k3 h13 => ?_) (fun hb k3 => ?_)
          · obtain ⟨m, hm⟩ := hS hb
            cases m with
            | zero => exact hm.elim
            | succ m =>
              rcases hm.2 with c | c
              · rw [f70]; exact tS_o c.1 hm.1.2
              · exact absurd c.1 k2'
          · have R2 := RL_go Rb hE2
            have g2 : RLN b Mb Na (nX_ Mb) (nx_ Na) := RLN_go
            have F2 := RLF_tr Fb (RLN_F (r := r) g2)
            have k3' : M 70 (a + 1) = 259 := by rw [← f70]; exact k3
            have xx : ∀ k : Nat, k ≠ 1 → nX_ Mb k = Mb k := fun k hk => nX_ne hk
            refine rv_i (hK (nX_ Mb) (nx_ Na) (a + 1 + 1) 1 R2 F2 ⟨by rw [xx 114 (by decide)]; exact rb.1, by rw [xx 115 (by decide)]; exact rb.2.1, by rw [xx 116 (by decide)]; exact rb.2.2.1, by rw [xx 117 (by decide)]; exact rb.2.2.2.1, by rw [xx 118 (by decide)]; exact rb.2.2.2.2⟩ (by rw [xx 119 (by decide), bb]; rfl) ⟨⟨k1, h13⟩, .inl ⟨k3', rfl⟩⟩ (by (clear hV hW hr hr1 h9 ht hn h hS h18 hK hQ hE hT ha h01 hS1 toQ st206 k1 h12 hE1 R1 nmt e16 e8 q151 sge p15 sr b7 Ra fa hqa Fa a119 Rb Fb rb bb hEb hTb f70 f73 f71 s1 s2 k2 k2' toQ1 sfin k3 h13 hE2 R2 g2 F2 k3' xx; lia)) (fun G Qtq g0 g1 => toQ1 fun V' hV' hW' => j_244t hTb hEb (by decide) k3 h13 (fun _ => ?_)))
            have z16 : nx_ Na 6 16 = b := hE2.2.2.2.2.2.2.2.1
            have z18 : nx_ Na 6 18 = N 6 18 := F2.2.2.1 18 (by decide)
            rw [z16]
            rcases h01 with hb | hb
            · rw [if_pos hb]
              refine q_227g (ER_goq hE2) ?_
              rw [if_pos rfl, w32_id (x := nx_ Na 6 18 + 1) (by rw [z18]; have := h18 hb; (clear hV hW hr hr1 h9 ht hn h hS h18 hK hQ hE hT ha hS1 toQ st206 k1 h12 hE1 R1 nmt e16 e8 q151 sge p15 sr b7 Ra fa hqa Fa a119 Rb Fb rb bb hEb hTb f70 f73 f71 s1 s2 k2 k2' toQ1 sfin k3 h13 hE2 R2 g2 F2 k3' xx g0 g1 hV' hW' z16 z18 hb; lia)) (by rw [z18]; have := h18 hb; (clear hV hW hr hr1 h9 ht hn h hS h18 hK hQ hE hT ha hS1 toQ st206 k1 h12 hE1 R1 nmt e16 e8 q151 sge p15 sr b7 Ra fa hqa Fa a119 Rb Fb rb bb hEb hTb f70 f73 f71 s1 s2 k2 k2' toQ1 sfin k3 h13 hE2 R2 g2 F2 k3' xx g0 g1 hV' hW' z16 z18 hb; omega))]
              exact ⟨ht, hr1, hr1, hr1, hr1, hr1, ⟨hr1, h9⟩, hr1, rv_i (g0 hb)⟩
            · rw [if_neg (by (clear hV hW hr hr1 h9 ht hn h hS h18 hK hQ hE hT ha hS1 toQ st206 k1 h12 hE1 R1 nmt e16 q151 sge p15 sr b7 Ra fa hqa Fa a119 Rb Fb rb bb hEb hTb f70 f73 f71 s1 s2 k2 k2' toQ1 sfin k3 h13 hE2 R2 g2 F2 k3' xx g0 g1 hV' hW' z18; lia))]; exact rv_i (g1 hb)
          · have hsp := SQ_bf hEb hb (k := 2) (by decide) QA_rf
            exact hQ hb _ (XPb_tr (RLF_X Fb) XPb_fl) (fun G Qtq hg => toQ1 fun V' hV' hW' => j_244r hTb hEb hb (by decide) k3 h13 (sfin hsp.1 (hg _ (SQp_tr (RLF_Q Fb) (SQ_P hsp)))))
          · have hsp := SQ_bf hEb hb (k := 1) (by decide) QA_rf
            exact hQ hb _ (XPb_tr (RLF_X Fb) XPb_fl) (fun G Qtq hg => toQ1 fun V' hV' hW' => j_244w hTb hEb hb (by decide) k3 (sfin hsp.1 (hg _ (SQp_tr (RLF_Q Fb) (SQ_P hsp)))))
      have fx : ∀ k : Nat, k ≠ 1 → Ma k = M k := fa.1.1
      refine b_122_390 (Tr_mono _) hV hW _ _ _ _ _ _ _ ?_
      by_cases c : sgl N (N 151 a) = -1
      · rw [if_pos c]
        exact tail Ma Ra Fa ⟨fx _ (by decide), fx _ (by decide), fx _ (by decide), fx _ (by decide), fx _ (by decide)⟩ (by rw [a119]; unfold lsb; rw [if_pos c])
      · rw [if_neg c]
        refine ⟨Ra.1.2.2, hr, hr, ?_⟩
        refine tail _ (RL_up (by decide) Ra) (RLF_tr Fa (RLF_up (.inl ⟨by decide, rfl⟩))) ⟨by rw [up_ne (by decide)]; exact fx _ (by decide), by rw [up_ne (by decide)]; exact fx _ (by decide), by rw [up_ne (by decide)]; exact fx _ (by decide), by rw [up_ne (by decide)]; exact fx _ (by decide), by rw [up_ne (by decide)]; exact fx _ (by decide)⟩ (by rw [up_at, a119]; unfold lsb; rw [if_neg c])
    refine x_112s R1.1.1 R1.1.2.2 R1.2.1.1 nmt ?_
    rw [sge, q151]
    intro _
    rw [e8]
    rcases h01 with hb | hb
    · rw [if_pos hb]
      refine fin (nX_ M) (nx_ N) R1 RLN_go (fun G Qtq hq => toQ fun V' hV' hW' => j_233t hT hE k1 h12 (fun _ => ?_))
      rw [e16, if_pos hb]
      exact hq V' hV' hW'
    · rw [if_neg (by (clear hV hW hr hr1 h9 ht hn h hS h18 hK hQ hE hT ha hS1 toQ st206 k1 h12 hE1 R1 nmt e16 q151 sge p15 sr b7 fin; lia))]
      by_cases c : sgl N (N 151 a) = -1
      · rw [if_pos c]
        obtain ⟨R2, f2, _⟩ := RL_n (kk := 4) (tk := a) h hE1 (.inr (by decide)) hE.1
        have ex : Xn_ (nX_ M) b 4 a = nt1_ (nX_ M) 4 a := by unfold Xn_; rw [if_neg (by (clear hV hW hr hr1 h9 ht hn h hS h18 hK hQ hE hT ha hS1 toQ st206 k1 h12 hE1 R1 nmt e16 q151 sge p15 sr b7 fin c R2 f2; lia))]
        have eq : Qn_ (nx_ N) b 4 (M 71 a) = nt_ (nx_ N) 4 (M 71 a) := by unfold Qn_; rw [if_neg (by omega)]
        rw [ex, eq] at R2 f2
        refine x_116 (by (clear hV hW hr hr1 h9 ht hn h hS h18 hK hQ hE hT hS1 toQ st206 k1 hE1 R1 nmt e16 e8 q151 sge p15 sr b7 fin hb c R2 f2 ex eq; omega)) (by (clear hV hW hr hr1 h9 ht hn h hS h18 hK hQ hE hT hS1 toQ st206 k1 hE1 R1 nmt e16 e8 q151 sge p15 sr b7 fin hb c R2 f2 ex eq; omega)) hE1.2.2.2.2.2.2.2.2.2.2.2.1 (by (clear hV hW hr hr1 h9 ht hn h hS h18 hK hQ hE hT hS1 toQ st206 k1 hE1 R1 nmt e16 e8 q151 sge p15 sr fin hb c R2 f2 ex eq; omega)) (fin _ _ R2 f2 (fun G Qtq hq => toQ fun V' hV' hW' => j_233t hT hE k1 h12 (fun _ => ?_)))
        rw [e16, if_neg (by omega)]
        refine ⟨by (clear hV hW hr hr1 h9 ht hn h hS h18 hK hQ hE hT hS1 toQ st206 k1 hE1 R1 nmt e16 e8 q151 sge p15 sr b7 fin hb c R2 f2 ex eq hq hV' hW'; omega), q_251t (M := nX_ M) R1.2.1.1 ?_⟩
        rw [sge, q151, if_pos (by (clear hV hW hr hr1 h9 ht hn h hS h18 hK hQ hE hT ha hS1 toQ st206 k1 h12 hE1 R1 nmt e16 e8 q151 sge p15 sr b7 fin hb R2 f2 ex eq hq hV' hW'; omega)), p15]
        exact ⟨by omega, q_236 (hq V' hV' hW')⟩
      · rw [if_neg c]
        refine fin (nX_ M) (nx_ N) R1 RLN_go (fun G Qtq hq => toQ fun V' hV' hW' => j_233t hT hE k1 h12 (fun _ => ?_))
        rw [e16, if_neg (by omega)]
        refine ⟨by omega, q_251t (M := nX_ M) R1.2.1.1 ?_⟩
        rw [sge, q151, if_neg (by (clear hV hW hr hr1 h9 ht hn h hS h18 hK hQ hE hT ha hS1 toQ st206 k1 h12 hE1 R1 nmt e16 e8 q151 sge p15 b7 fin hb hq hV' hW'; omega))]
        exact hq V' hV' hW'
end RTe
end T283_rt
section T284_rt
/-! a route more (pass 1) -/
def rx1_ (M : mm_) (t f : Int) : mm_ := up_ (up_ (up_ M 57 (M 5 1) t) 55 (M 5 1) f) 5 1 (M 5 1 + 1)
def rqv (N : mm_) (r t : Int) : mm_ := up_ (up_ N 153 r (N 151 t)) 6 18 (N 6 18 + 1)
section RTf
variable {b F F1 : Int} {M N M1 N1 : mm_} {a a1 T t f ns nr np r : Int}
theorem rx1_r [Inhabited gh_] {k : Nat} (h : k ≠ 5) (h1 : k ≠ 57) (h2 : k ≠ 55) : rx1_ M t f k = M k := by unfold rx1_; rw [up_ne h, up_ne h2, up_ne h1]
theorem rx1_k [Inhabited gh_] : rx1_ M t f 5 1 = M 5 1 + 1 ∧ rx1_ M t f 57 (M 5 1) = t ∧ rx1_ M t f 55 (M 5 1) = f := by
  unfold rx1_; exact ⟨up_at, by rw [up_ne (by decide), up_ne (by decide), up_at], by rw [up_ne (by decide), up_at]⟩
theorem rx1_5 [Inhabited gh_] {i : Int} (h : i ≠ 1) : rx1_ M t f 5 i = M 5 i := by unfold rx1_; rw [up_of2 h, up_ne (by decide), up_ne (by decide)]
theorem rx1_o [Inhabited gh_] {i : Int} (h : i ≠ M 5 1) : rx1_ M t f 57 i = M 57 i ∧ rx1_ M t f 55 i = M 55 i := by
  unfold rx1_; exact ⟨by rw [up_ne (by decide), up_ne (by decide), up_of2 h], by rw [up_ne (by decide), up_of2 h, up_ne (by decide)]⟩
theorem rqv_r [Inhabited gh_] {k : Nat} (h : k ≠ 6) (h1 : k ≠ 153) : rqv N r t k = N k := by unfold rqv; rw [up_ne h, up_ne h1]
theorem rqv_6 [Inhabited gh_] {i : Int} (h : i ≠ 18) : rqv N r t 6 i = N 6 i := by unfold rqv; rw [up_of2 h, up_ne (by decide)]
theorem rqv_o [Inhabited gh_] {i : Int} (hi : i ≠ r) : rqv N r t 153 i = N 153 i := by unfold rqv; rw [up_ne (by decide), up_of2 hi]
theorem rqv_k [Inhabited gh_] : rqv N r t 6 18 = N 6 18 + 1 ∧ rqv N r t 153 r = N 151 t := by
  unfold rqv
  exact ⟨up_at, by rw [up_ne (by decide), up_at]⟩
theorem SY_rt [Inhabited gh_] (h : SY0 b F M N a) (hb : b = 0) (ht : nm9_ M t) (hta : t < a) (hlt : ∀ u, GLM M u → u < t) (h6 : M 5 1 < 10) (hf : M 1 7 + 1 + 8 * (1201 - a) ≤ 1000000000 - (gg_ : Int)) : SY0 b (Fg_ F M N t) (rx1_ (gd1_ M N t) t f) (rqv (gq_ N t) (M 5 1) t) a := by
  obtain ⟨⟨s1, s2, s3⟩, ⟨g1, g2, g3, g4, g5⟩, ty, ⟨tp, gl⟩, ⟨⟨c1, c2, c3⟩, c4, c5, c6, c7, c8, c9, c10⟩, sr⟩ := h
  obtain ⟨⟨a1, a1'⟩, a2⟩ := g1
  obtain ⟨⟨a3, a3'⟩, a4, a5⟩ := g2
  obtain ⟨a6, a6'⟩ := g3
  obtain ⟨⟨u1, u2⟩, u3, u4, u5⟩ := g5
  have hpl := (s1 t ht.1).2.2.2.1
  have hp15 : N 150 t = M 71 t := (s1 t ht.1).2.1.symm
  have hF : Fg_ F M N t ≤ F := Fg_le
  have e50 : gd1_ M N t 5 1 = M 5 1 := by rw [gd1_r (by decide)]
  have x : ∀ k : Nat, k ∉ [1, 5, 55, 57] → rx1_ (gd1_ M N t) t f k = M k := fun k h => by rw [rx1_r (fun e => h (by rw [e]; decide)) (fun e => h (by rw [e]; decide)) (fun e => h (by rw [e]; decide)), gd1_r (fun e => h (by rw [e]; decide))]
  have xo : ∀ i : Int, i ≠ M 5 1 → rx1_ (gd1_ M N t) t f 57 i = M 57 i := fun i hi => by rw [(rx1_o (by rw [e50]; exact hi)).1, gd1_r (by decide)]
  have x5 : ∀ i : Int, i ≠ 1 → rx1_ (gd1_ M N t) t f 5 i = M 5 i := fun i h => by rw [rx1_5 h, gd1_r (by decide)]
  have x1 : rx1_ (gd1_ M N t) t f 1 = gd1_ M N t 1 := by rw [rx1_r (by decide) (by decide) (by decide)]
  have x1i : ∀ i : Int, i ≠ 4 → i ≠ 5 → i ≠ 7 → rx1_ (gd1_ M N t) t f 1 i = M 1 i := fun i h4 h5 h7 => by rw [x1]; exact gd1_1 h4 h5 h7
  have k50 : rx1_ (gd1_ M N t) t f 5 1 = M 5 1 + 1 := by rw [rx1_k.1, e50]
  have k57 : rx1_ (gd1_ M N t) t f 57 (M 5 1) = t := by
    have := (rx1_k (M := gd1_ M N t) (t := t) (f := f)).2.1
    rw [e50] at this; exact this
  have q : ∀ k : Nat, k ∉ [6, 153, 190, 191] → rqv (gq_ N t) (M 5 1) t k = N k := fun k h => by
    rw [rqv_r (fun e => h (by rw [e]; decide)) (fun e => h (by rw [e]; decide)), gq_r (fun e => h (by rw [e]; decide)) (fun e => h (by rw [e]; decide)) (fun e => h (by rw [e]; decide))]
  have qo : ∀ i : Int, i ≠ M 5 1 → rqv (gq_ N t) (M 5 1) t 153 i = N 153 i := fun i hi => by rw [rqv_o hi, gq_r (by decide) (by decide) (by decide)]
  have q6 : ∀ i : Int, i ≠ 18 → i ≠ 58 → rqv (gq_ N t) (M 5 1) t 6 i = N 6 i := fun i h h' => by rw [rqv_6 h, gq_6 h']
  have q58 : rqv (gq_ N t) (M 5 1) t 6 58 = N 6 58 + 1 := by rw [rqv_6 (by decide)]; exact gq_k.1
  have q190 : ∀ (k : Nat) (i : Int), k = 190 ∨ k = 191 → i ≠ N 6 58 → rqv (gq_ N t) (M 5 1) t k i = N k i := fun k i hr hi => by rw [rqv_r (by rcases hr with e | e <;> rw [e] <;> decide) (by rcases hr with e | e <;> rw [e] <;> decide), gq_o (by (clear hb ht hta hlt h6 hf s1 s2 s3 g4 ty tp gl sr c1 c2 c3 c4 c5 c6 c7 c8 c9 c10 a2 a1 a1' a3 a3' a4 a5 a6 a6' u1 u2 u3 u4 u5 hpl hp15 hF e50 x xo x5 x1 x1i k50 k57 q qo q6 q58; lia)) hi]
  have q190k : rqv (gq_ N t) (M 5 1) t 190 (N 6 58) = N 151 t ∧ rqv (gq_ N t) (M 5 1) t 191 (N 6 58) = N 150 t := by rw [rqv_r (by decide) (by decide), rqv_r (by decide) (by decide)]; exact gq_k.2
  obtain ⟨l18, l153⟩ := rqv_k (N := gq_ N t) (r := M 5 1) (t := t)
  rw [gq_6 (by decide), a6.2.2] at l18
  rw [gq_r (by decide) (by decide) (by decide)] at l153
  have hE : ER b (Fg_ F M N t) (rx1_ (gd1_ M N t) t f) (rqv (gq_ N t) (M 5 1) t) a 0 := ER_1 (ER_gd (t := t) s2 hb (by (clear hb ht hta hlt h6 hf s1 s2 s3 g4 ty tp gl sr c1 c2 c3 c4 c5 c6 c7 c8 c9 c10 a2 a1 a1' a3 a3' a4 a5 a6 a6' u1 u2 u3 u4 u5 hF e50 x xo x5 x1 x1i k50 k57 q qo q6 q58 q190 l18 l153; lia)) (by (clear hb ht hta hlt h6 s1 s2 s3 g4 ty tp gl sr c1 c2 c3 c4 c5 c6 c7 c8 c9 c10 a2 a1 a1' a3 a3' a4 a5 a6 a6' u1 u2 u3 u4 u5 hpl hp15 hF e50 x xo x5 x1 x1i k50 k57 q qo q6 q58 q190 q190k l18 l153; omega))) (by rw [rx1_r (by decide) (by decide) (by decide)]) (by rw [rx1_5 (by decide)]) (fun i _ => by rw [x1]) (fun i hi => q6 i (fun e => by rw [e] at hi; revert hi; decide) (fun e => by rw [e] at hi; revert hi; decide))
  have f7 := gd1_7 (M := M) (N := N) (t := t)
  rw [← x1] at f7
  clear x1
  generalize eM : rx1_ (gd1_ M N t) t f = M9 at *
  generalize eN : rqv (gq_ N t) (M 5 1) t = N9 at *
  have e70 := x 70 (by decide)
  have e71 := x 71 (by decide)
  have e151 := q 151 (by decide)
  have nm : ∀ u, nm9_ M u → nm9_ M9 u := fun u hu => nm9_r hu e70
  have hTk : Tks M9 N9 := Tks_r s1 (fun k hr => x k (fun e => by simp only [List.mem_cons, List.not_mem_nil, or_false] at hr e; (clear hb ht hta hlt h6 hf s1 s2 s3 g4 ty tp gl sr c1 c2 c3 c4 c5 c6 c7 c8 c9 c10 a2 a1 a1' a3 a3' a4 a5 a6 a6' u1 u2 u3 u4 u5 hpl hp15 hF e50 eM x xo x5 x1i k50 k57 f7 eN q qo q6 q58 q190 q190k l18 l153 hE e70 e71 e151 nm; omega))) (fun k hr => q k (fun e => by simp only [List.mem_cons, List.not_mem_nil, or_false] at hr e; (clear hb ht hta hlt h6 hf s1 s2 s3 g4 ty tp gl sr c1 c2 c3 c4 c5 c6 c7 c8 c9 c10 a2 a1 a1' a3 a3' a4 a5 a6 a6' u1 u2 u3 u4 u5 hpl hp15 hF e50 eM x xo x5 x1i k50 k57 f7 eN q qo q6 q58 q190 q190k l18 l153 hE e70 e71 e151 nm; omega)))
  have glm : ∀ u, GLM M9 u ↔ GLM M u ∨ u = t := fun u => by
    unfold GLM
    rw [x5 2 (by decide), x5 0 (by decide), x 58 (by decide), x 56 (by decide), k50]
    constructor
    · rintro (h | ⟨k, hk, e⟩ | h)
      · exact .inl (.inl h)
      · by_cases c : k = M 5 1
        · rw [c, k57] at e; exact .inr e.symm
        · rw [xo k c] at e
          exact .inl (.inr (.inl ⟨k, by (clear hb ht hta hlt h6 hf s1 s2 s3 g4 ty tp gl sr c1 c2 c3 c4 c5 c6 c7 c8 c9 c10 a2 a1 a1' a3 a3' a4 a5 a6' u1 u2 u3 u4 u5 hpl hp15 hF eM x xo x5 x1i k57 f7 eN q qo q6 q58 q190 q190k l153 hE e70 e71 e151 nm hTk e; lia), e⟩))
      · exact .inl (.inr (.inr h))
    · rintro ((h | ⟨k, hk, e⟩ | h) | h)
      · exact .inl h
      · exact .inr (.inl ⟨k, by (clear hb ht hta hlt h6 hf s1 s2 s3 g4 ty tp gl sr c1 c2 c3 c4 c5 c6 c7 c8 c9 c10 a2 a1 a1' a3 a3' a4 a5 a6' u1 u2 u3 u4 u5 hpl hp15 hF eM x xo x5 x1i k57 f7 eN q qo q6 q58 q190 q190k l153 hE e70 e71 e151 nm hTk e; lia), by rw [xo k (by (clear hb ht hta hlt h6 hf s1 s2 s3 g4 ty tp gl sr c1 c2 c3 c4 c5 c6 c7 c8 c9 c10 a2 a1 a1' a3 a3' a4 a5 a6' u1 u2 u3 u4 u5 hpl hp15 hF eM x xo x5 x1i k57 f7 eN q qo q6 q58 q190 q190k l153 hE e70 e71 e151 nm hTk e; lia))]; exact e⟩)
      · exact .inr (.inr h)
      · exact .inr (.inl ⟨M 5 1, by (clear hb ht hta hlt hf s1 s2 s3 g4 ty tp gl sr c1 c2 c3 c4 c5 c6 c7 c8 c9 c10 a2 a1 a1' a3 a3' a4 a5 a6' u1 u2 u3 u4 u5 hpl hp15 hF eM x xo x5 x1i k57 f7 eN q qo q6 q58 q190 q190k l153 hE e70 e71 e151 nm hTk h; lia), by rw [k57]; exact h.symm⟩)
  refine ⟨⟨hTk, hE, by rw [x1i 2 (by decide) (by decide) (by decide)]; exact s3⟩, ⟨?_, ?_, ?_, fun hb1 => by (clear ht hta hlt h6 hf s1 s2 s3 g4 ty tp gl sr c1 c2 c3 c4 c5 c6 c7 c8 c9 c10 a2 a1 a1' a3 a3' a4 a5 a6 a6' u1 u2 u3 u4 u5 hpl hp15 hF e50 eM x xo x5 x1i k50 k57 f7 eN q qo q6 q58 q190 q190k l18 l153 hE e70 e71 e151 nm hTk glm; lia), ?_⟩, fun T T0 T1 => ?_, ⟨by rw [x5 2 (by decide), x 58 (by decide)]; exact tp, fun _ u hu => ?_⟩, ⟨⟨by rw [q6 75 (by decide) (by decide)]; exact c1, by rw [q6 104 (by decide) (by decide)]; exact c2, by rw [x5 3 (by decide)]; exact c3⟩, by rw [q6 76 (by decide) (by decide)]; exact c4, by (clear hb ht hta hlt h6 s1 s2 s3 g4 ty tp gl sr c1 c2 c3 c4 c5 c6 c7 c8 c9 c10 a2 a1 a1' a3 a3' a4 a5 a6 a6' u1 u2 u3 u4 u5 hpl hp15 hF e50 eM x xo x5 x1i k50 k57 eN q qo q6 q58 q190 q190k l18 l153 hE e70 e71 e151 nm hTk glm; omega), by rw [q6 90 (by decide) (by decide)]; exact c6, by rw [x1i 21 (by decide) (by decide) (by decide), x1i 23 (by decide) (by decide) (by decide)]; exact c7, by rw [x5 4 (by decide)]; exact c8, by rw [q6 62 (by decide) (by decide)]; exact c9, by rw [q6 63 (by decide) (by decide)]; exact c10⟩, fun hb1 => by omega⟩
  · unfold SGT sgl9
    rw [x5 0 (by decide), q6 17 (by decide) (by decide), x 56 (by decide), q 152 (by decide), e151, x 112 (by decide), x 113 (by decide), q 156 (by decide), q 157 (by decide)]
    exact ⟨⟨a1, fun k k0 k1 => ⟨nm _ (a1' k k0 k1).1, (a1' k k0 k1).2⟩⟩, a2⟩
  · unfold PRT tpl9
    rw [x5 2 (by decide), q6 19 (by decide) (by decide), x 58 (by decide), q 154 (by decide), e151, q 170 (by decide), q 182 (by decide), q 183 (by decide), x 122 (by decide), x 130 (by decide)]
    exact ⟨⟨a3, fun k k0 k1 => ⟨nm _ (a3' k k0 k1).1, (a3' k k0 k1).2⟩⟩, a4, a5⟩
  · unfold rtl9
    rw [k50, l18, e151]
    refine ⟨by (clear hb ht hta hlt hf s1 s2 s3 g4 ty tp gl sr c1 c2 c3 c4 c5 c6 c7 c8 c9 c10 a2 a1 a1' a3 a3' a4 a5 a6' u1 u2 u3 u4 u5 hpl hp15 hF eM x xo x5 x1i k57 f7 eN q qo q6 q58 q190 q190k l153 hE e70 e71 e151 nm hTk glm; lia), fun k k0 k1 => ?_⟩
    by_cases c : k = M 5 1
    · rw [c, k57, l153]; exact ⟨nm _ ht, rfl⟩
    · rw [xo k c, qo k c]
      have z := a6' k k0 (by (clear hb ht hta hlt h6 hf s1 s2 s3 g4 ty tp gl sr c1 c2 c3 c4 c5 c6 c7 c8 c9 c10 a2 a1 a1' a3 a3' a4 a5 a6' u1 u2 u3 u4 u5 hpl hp15 hF eM x xo x5 x1i k57 f7 eN q qo q6 q58 q190 q190k l153 hE e70 e71 e151 nm hTk glm k0; lia))
      exact ⟨nm _ z.1, z.2⟩
  · unfold GLT
    rw [q58, x5 2 (by decide), x5 0 (by decide), k50, e151, e71, q 155 (by decide), x 56 (by decide)]
    refine ⟨by (clear hb ht hta hlt h6 hf s1 s2 s3 g4 ty tp gl sr c1 c2 c3 c4 c5 c6 c7 c8 c9 c10 a2 a1' a3' a4 a5 a6' u3 u4 u5 hpl hp15 hF e50 eM x xo x5 x1i k50 k57 f7 eN q qo q6 q190 q190k l18 l153 hE e70 e71 e151 nm hTk glm; omega), fun i i0 i1 => ?_, fun u v hu hv he hl => ?_, u5.1, fun u hu => ?_⟩
    · by_cases c : i = N 6 58
      · rw [c, q190k.1, q190k.2]
        exact ⟨t, ⟨nm _ ht, (glm t).2 (.inr rfl)⟩, rfl, hp15⟩
      · rw [q190 190 i (.inl rfl) c, q190 191 i (.inr rfl) c]
        obtain ⟨u, hu, w⟩ := u3 i i0 (by (clear hb ht hta hlt h6 hf s1 s2 s3 g4 ty tp gl sr c1 c2 c3 c4 c5 c6 c7 c8 c9 c10 a2 a1 a1' a3 a3' a4 a5 a6 a6' u1 u2 u3 u4 u5 hpl hp15 hF e50 eM x xo x5 x1i k50 k57 f7 eN q qo q6 q190 q190k l18 l153 hE e70 e71 e151 nm hTk glm i0; omega))
        exact ⟨u, ⟨nm _ hu.1, (glm u).2 (.inl hu.2)⟩, w⟩
    · rcases (glm u).1 hu with hu | hu
      · rcases (glm v).1 hv with hv | hv
        · have := u4 u v hu hv he hl; (clear hb ht hta hlt h6 hf s1 s2 s3 g4 ty tp gl sr c1 c2 c3 c4 c5 c6 c7 c8 c9 c10 a2 a1 a1' a3 a3' a4 a5 a6 a6' u1 u2 u3 u4 u5 hpl hp15 e50 eM x xo x5 x1i k50 k57 f7 eN q qo q6 q58 q190 q190k l18 l153 hE e70 e71 e151 nm hTk glm he hl hu hv; lia)
        · rw [hv] at he ⊢
          have told := GLM_told ⟨a1, a1'⟩ ⟨a6, a6'⟩ ⟨a3, a3'⟩ hu he
          unfold Fg_
          rw [if_neg told]; (clear hb ht hta hlt h6 hf s1 s2 s3 g4 ty tp gl sr c1 c2 c3 c4 c5 c6 c7 c8 c9 c10 a2 a1 a1' a3 a3' a4 a5 a6 a6' u1 u2 u3 u4 u5 hpl hF e50 eM x xo x5 x1i k50 k57 f7 eN q qo q6 q58 q190 l18 l153 hE e70 e71 e151 nm hTk glm he hl hu hv told; lia)
      · rcases (glm v).1 hv with hv | hv
        · have := hlt v hv; (clear hb ht hta hlt h6 hf s1 s2 s3 g4 ty tp gl sr c1 c2 c3 c4 c5 c6 c7 c8 c9 c10 a2 a1 a1' a3 a3' a4 a5 a6 a6' u1 u2 u3 u4 u5 hpl hp15 hF e50 eM x xo x5 x1i k50 f7 eN q qo q6 q58 q190 q190k l18 l153 hE e70 e71 e151 nm hTk glm he hv; omega)
        · (clear hb ht hta hlt h6 hf s1 s2 s3 g4 ty tp gl sr c1 c2 c3 c4 c5 c6 c7 c8 c9 c10 a2 a1 a1' a3 a3' a4 a5 a6 a6' u1 u2 u3 u4 u5 hpl hp15 hF e50 eM x xo x5 x1i k50 f7 eN q qo q6 q58 q190 q190k l18 l153 hE e70 e71 e151 nm hTk glm he; lia)
    · rcases (glm u).1 hu with hu | hu
      · obtain ⟨i, hi, w⟩ := u5.2 u hu
        exact ⟨i, by (clear hb ht hta hlt h6 hf s1 s2 s3 g4 ty tp gl sr c1 c2 c3 c4 c5 c6 c7 c8 c9 c10 a2 a1 a1' a3 a3' a4 a5 a6 a6' u1 u2 u3 u4 u5 hpl hp15 hF e50 eM x xo x5 x1i k50 k57 f7 eN q qo q6 q190 q190k l18 l153 hE e70 e71 e151 nm hTk glm hu w; omega), by rw [q190 190 i (.inl rfl) (by (clear hb ht hta hlt h6 hf s1 s2 s3 g4 ty tp gl sr c1 c2 c3 c4 c5 c6 c7 c8 c9 c10 a2 a1 a1' a3 a3' a4 a5 a6 a6' u1 u2 u3 u4 u5 hpl hp15 hF e50 eM x xo x5 x1i k50 k57 f7 eN q qo q6 q190 q190k l18 l153 hE e70 e71 e151 nm hTk glm hu w; omega)), q190 191 i (.inr rfl) (by omega)]; exact w⟩
      · rw [hu]; exact ⟨N 6 58, by (clear hb ht hta hlt h6 hf s1 s2 s3 g4 ty tp gl sr c1 c2 c3 c4 c5 c6 c7 c8 c9 c10 a2 a1 a1' a3 a3' a4 a5 a6 a6' u2 u3 u4 u5 hpl hp15 hF e50 eM x xo x5 x1i k50 k57 f7 eN q qo q6 q190 q190k l18 l153 hE e70 e71 e151 nm hTk glm hu; lia), by rw [q190k.1, q190k.2]; exact ⟨rfl, hp15⟩⟩
  · rw [x5 2 (by decide)] at T1
    exact TYP_c (ty T T0 T1) (ROW_e (fun k hr => x k (fun e => by revert hr e; unfold rwX; simp only [List.mem_cons, List.not_mem_nil, or_false]; (clear hb ht hta hlt h6 hf s1 s2 s3 g4 ty tp gl sr c1 c2 c3 c4 c5 c6 c7 c8 c9 c10 a2 a1 a1' a3 a3' a4 a5 a6 a6' u1 u2 u3 u4 u5 hpl hp15 hF e50 eM x xo x5 x1i k50 k57 f7 eN q qo q6 q58 q190 q190k l18 l153 hE e70 e71 e151 nm hTk glm T0 T1; omega))) (fun k hr => q k (fun e => by revert hr e; unfold rwQ; simp only [List.mem_cons, List.not_mem_nil, or_false]; (clear hb ht hta hlt h6 hf s1 s2 s3 g4 ty tp gl sr c1 c2 c3 c4 c5 c6 c7 c8 c9 c10 a2 a1 a1' a3 a3' a4 a5 a6 a6' u1 u2 u3 u4 u5 hpl hp15 hF e50 eM x xo x5 x1i k50 k57 f7 eN q qo q6 q58 q190 q190k l18 l153 hE e70 e71 e151 nm hTk glm T0 T1; omega)))) e70 e71 e151 hF (Int.le_refl _)
  · rcases (glm u).1 hu with h | h
    · exact gl hb u h
    · (clear hb ht hlt h6 hf s1 s2 s3 g4 ty tp gl sr c1 c2 c3 c4 c5 c6 c7 c8 c9 c10 a2 a1 a1' a3 a3' a4 a5 a6 a6' u1 u2 u3 u4 u5 hpl hp15 hF e50 eM x xo x5 x1i k50 f7 eN q qo q6 q58 q190 q190k l18 l153 hE e70 e71 e151 nm hTk glm hu; lia)
/-- pass 1: rows that SY0 does not read -/
theorem SY_rl [Inhabited gh_] (h : SY0 b F M N a) (hb0 : b = 0) (hE : ER b F M1 N1 a1 0) (ha : a ≤ a1) (hx : ∀ r : Nat, r ∉ [1, 55, 114, 115, 116, 117, 118, 119] → M1 r = M r) (h1 : ∀ i : Int, i ∈ [2, 21, 23] → M1 1 i = M 1 i) (h7 : M1 1 7 + 8 * (1201 - a1) ≤ 1000000000 - (gg_ : Int)) (hq : ∀ r : Nat, r ∉ [6, 158, 159, 160, 161, 162, 163, 164, 165, 166] → N1 r = N r) (h6 : ∀ i : Int, i ∈ [17, 18, 19, 58, 62, 63, 75, 76, 90, 104] → N1 6 i = N 6 i) : SY0 b F M1 N1 a1 := by
  obtain ⟨⟨s1, s2, s3⟩, ⟨g1, g2, g3, g4, g5⟩, ty, ⟨tp, gl⟩, ⟨⟨c1, c2, c3⟩, c4, c5, c6, c7, c8, c9, c10⟩, sr⟩ := h
  have e5 := hx 5 (by decide)
  have e70 := hx 70 (by decide)
  have e71 := hx 71 (by decide)
  have e151 := hq 151 (by decide)
  have nm : ∀ u, nm9_ M u → nm9_ M1 u := fun u hu => nm9_r hu e70
  have glm : ∀ u, GLM M1 u ↔ GLM M u := fun u => by
    unfold GLM
    rw [e5, hx 56 (by decide), hx 57 (by decide), hx 58 (by decide)]
  obtain ⟨⟨a1', a1''⟩, a2⟩ := g1
  obtain ⟨⟨a3, a3'⟩, a4, a5⟩ := g2
  obtain ⟨a6, a6'⟩ := g3
  obtain ⟨u1, u3, u4, u5⟩ := g5
  refine ⟨⟨Tks_r s1 (fun r hr => hx r (fun e => by simp only [List.mem_cons, List.not_mem_nil, or_false] at hr e; (clear hb0 hE ha hx h1 h7 hq h6 s1 s2 s3 g4 ty tp gl sr c1 c2 c3 c4 c5 c6 c7 c8 c9 c10 e5 e70 e71 e151 nm glm a2 a1' a1'' a3 a3' a4 a5 a6 a6' u1 u3 u4 u5; omega))) (fun r hr => hq r (fun e => by simp only [List.mem_cons, List.not_mem_nil, or_false] at hr e; (clear hb0 hE ha hx h1 h7 hq h6 s1 s2 s3 g4 ty tp gl sr c1 c2 c3 c4 c5 c6 c7 c8 c9 c10 e5 e70 e71 e151 nm glm a2 a1' a1'' a3 a3' a4 a5 a6 a6' u1 u3 u4 u5; omega))), hE, by rw [h1 2 (by decide)]; exact s3⟩, ⟨?_, ?_, ?_, fun hb => by omega, ?_⟩, fun T T0 T1 => ?_, ⟨by rw [e5, hx 58 (by decide)]; exact tp, fun hb u hu => by have := gl hb u ((glm u).1 hu); (clear hb0 hE hx h1 h7 hq h6 s1 s2 s3 g4 ty tp gl sr c1 c2 c3 c4 c5 c6 c7 c8 c9 c10 e5 e70 e71 e151 nm glm a2 a1' a1'' a3 a3' a4 a5 a6 a6' u1 u3 u4 u5 hb hu; omega)⟩, ⟨⟨by rw [h6 75 (by decide)]; omega, by rw [h6 104 (by decide)]; omega, by rw [e5]; (clear hb0 hE hx h1 h7 hq h6 s1 s2 s3 g4 ty tp gl sr c1 c2 c4 c5 c6 c7 c8 c9 c10 e5 e70 e71 e151 nm glm a2 a1' a1'' a3 a3' a4 a5 a6 a6' u1 u3 u4 u5; omega)⟩, by rw [h6 76 (by decide)]; (clear hb0 hE hx h1 h7 hq h6 s1 s2 s3 g4 ty tp gl sr c1 c2 c3 c5 c6 c7 c8 c9 c10 e5 e70 e71 e151 nm glm a2 a1' a1'' a3 a3' a4 a5 a6 a6' u1 u3 u4 u5; lia), h7, by rw [h6 90 (by decide)]; omega, by rw [h1 21 (by decide), h1 23 (by decide)]; exact c7, by rw [e5]; omega, by rw [h6 62 (by decide)]; (clear hb0 hE hx h1 h7 hq h6 s1 s2 s3 g4 ty tp gl sr c1 c2 c3 c4 c5 c6 c7 c8 c10 e5 e70 e71 e151 nm glm a2 a1' a1'' a3 a3' a4 a5 a6 a6' u1 u3 u4 u5; lia), by rw [h6 63 (by decide)]; (clear hb0 hE hx h1 h7 hq h6 s1 s2 s3 g4 ty tp gl sr c1 c2 c3 c4 c5 c6 c7 c8 c9 e5 e70 e71 e151 nm glm a2 a1' a1'' a3 a3' a4 a5 a6 a6' u1 u3 u4 u5; lia)⟩, fun hb => by omega⟩
  · unfold SGT sgl9
    rw [e5, h6 17 (by decide), hx 56 (by decide), hq 152 (by decide), e151, hx 112 (by decide), hx 113 (by decide), hq 156 (by decide), hq 157 (by decide)]
    exact ⟨⟨a1', fun k k0 k1 => ⟨nm _ (a1'' k k0 k1).1, (a1'' k k0 k1).2⟩⟩, a2⟩
  · unfold PRT tpl9
    rw [e5, h6 19 (by decide), hx 58 (by decide), hq 154 (by decide), e151, hq 170 (by decide), hq 182 (by decide), hq 183 (by decide), hx 122 (by decide), hx 130 (by decide)]
    exact ⟨⟨a3, fun k k0 k1 => ⟨nm _ (a3' k k0 k1).1, (a3' k k0 k1).2⟩⟩, a4, a5⟩
  · unfold rtl9
    rw [e5, h6 18 (by decide), hx 57 (by decide), hq 153 (by decide), e151]
    exact ⟨a6, fun k k0 k1 => ⟨nm _ (a6' k k0 k1).1, (a6' k k0 k1).2⟩⟩
  · unfold GLT
    rw [h6 58 (by decide), e5, hq 190 (by decide), hq 191 (by decide), e151, e71, hq 155 (by decide), hx 56 (by decide)]
    refine ⟨u1, fun i i0 i1 => ?_, fun u v hu hv => u4 u v ((glm u).1 hu) ((glm v).1 hv), u5.1, fun u hu => u5.2 u ((glm u).1 hu)⟩
    obtain ⟨u, hu, w⟩ := u3 i i0 i1
    exact ⟨u, ⟨nm _ hu.1, (glm u).2 hu.2⟩, w⟩
  · rw [e5] at T1
    exact TYP_c (ty T T0 T1) (ROW_e (fun r hr => hx r (fun e => by revert hr e; unfold rwX; simp only [List.mem_cons, List.not_mem_nil, or_false]; (clear hb0 hE ha hx h1 h7 hq h6 s1 s2 s3 g4 ty tp gl sr c1 c2 c3 c4 c5 c6 c7 c8 c9 c10 e5 e70 e71 e151 nm glm a2 a1' a1'' a3 a3' a4 a5 a6 a6' u1 u3 u4 u5 T0 T1; omega))) (fun r hr => hq r (fun e => by revert hr e; unfold rwQ; simp only [List.mem_cons, List.not_mem_nil, or_false]; (clear hb0 hE ha hx h1 h7 hq h6 s1 s2 s3 g4 ty tp gl sr c1 c2 c3 c4 c5 c6 c7 c8 c9 c10 e5 e70 e71 e151 nm glm a2 a1' a1'' a3 a3' a4 a5 a6 a6' u1 u3 u4 u5 T0 T1; omega)))) e70 e71 e151 (Int.le_refl _) ha
/-- from SYS to SYS, with a route more -/
theorem SYS_rt [Inhabited gh_] (h : SYS b F M N a ns nr np) (hY : SY0 b F1 M1 N1 a1) (h1 : M1 1 31 = M 1 31 ∧ M1 1 32 = nr + 1 ∧ M1 1 33 = M 1 33) (h5 : b = 0 → M1 5 0 = M 5 0 ∧ M1 5 1 = nr + 1) (h52 : M1 5 2 = M 5 2) (hx : ∀ r : Nat, r ∈ rwX → M1 r = M r) (hq : ∀ r : Nat, r ∈ rwQ → N1 r = N r) : SYS b F1 M1 N1 a1 ns (nr + 1) np := by
  obtain ⟨g1, ⟨⟨c1, c2, c3⟩, ⟨d1, d2, d3⟩, d4⟩, g3⟩ := h
  refine ⟨hY, ⟨⟨by rw [h1.1]; exact c1, h1.2.1, by rw [h1.2.2]; exact c3⟩, ⟨d1, by (clear hY h1 h5 h52 hx hq g1 g3 c1 c3 d4 d1 d3; lia), d3⟩, fun hb => ⟨by rw [(h5 hb).1]; exact (d4 hb).1, (h5 hb).2, by rw [h52]; exact (d4 hb).2.2⟩⟩, fun T T0 T1 => ?_⟩
  rw [h52] at T1
  exact CNT_c (g3 T T0 T1) (ROW_e hx hq)
end RTf
end T284_rt
section T285_rt
/-! a route's name (X 122 V 0 | Q 228 [1] + 245 V 0) -/
def q46 (dq : Nat) (r t : Int) (N : mm_) (G : mm_ → Prop) (Qt : qt_) : Prop := ∀ V : vv_, Cl_ wd0 (Tr_ wd0 pg0 (dq + 18)) V (rv_ G) Qt m_245 → Wk_ V → Tr_ wd0 pg0 (dq + 18) 246 [.inr (.inr 6)] N (rl_ fun v1 M2 =>
   Tr_ wd0 pg0 (dq + 18) 244 [.inr (.inr 6), .inl 260] M2 (rv_ fun M3 =>
    Tr_ wd0 pg0 (dq + 18) 246 [.inr (.inr 6)] M3 (rl_ fun v2 M4 => q28V dq r t v1 v2 M4 V Qt) Qt) Qt) Qt
def qRC (dq : Nat) (nr : Int) (N : mm_) (G : mm_ → Prop) (Qt : qt_) : Prop := Tr_ wd0 pg0 (dq + 19) 228 [.inr (.inr 6), .inl 1] N (ri_ fun v M3 => if v = 0 then False else Tr_ wd0 pg0 (dq + 19) 245 [.inr (.inr 6), .inl nr] M3 (rv_ G) Qt) Qt
section RTg
variable {dq : Nat} {b F F1 : Int} {ns nr np t : Int} {Kv G : mm_ → Prop} {Qt Qtq : qt_} {V V' : vv_} {M N Mx' M' N' M1 N1 : mm_} {a a' : Int}
theorem SY_RL [Inhabited gh_] (h : SY0 b F M N a) : RL b F M N a := ⟨h.1, ⟨h.2.1.1.1, h.2.1.2.1.1⟩, h.2.2.2.2.1.2.2.1⟩
theorem q245z [Inhabited gh_] {x : Int} (hs : sp_ N) (h : G N) : Tr_ wd0 pg0 (dq + 19) 245 [.inr (.inr 6), .inl x] N (rv_ G) Qtq := t_245 fun V hV hW => b_245_0 (Tr_mono _) hV hW _ _ (q_233s hs (q_227s hs (by rw [if_neg (by decide)]; exact rv_i h)))
theorem y_rnm [Inhabited gh_] (hV : Cl_ wd0 (Tr_ wd0 pg0 130) V (rv_ Kv) Qt m_122) (hW : Wk_ V) (h : SYS b F M N a ns nr np) (hk : M 70 a = 1) (h9 : b = 0 → M 1 9 = 0) (hS : b = 1 → (M 70 (a + 1) = 100 ∧ a + 1 < 1200) ∧ nr < M 5 1 ∧ M 57 nr = a + 1)
    (hK : ∀ F1 Mz Nz, (b = 0 → SY0 b F1 Mz (rqv Nz nr (a + 1)) (a + 2) ∧ Mz = rx1_ (gd1_ (nX_ (nX_ M)) (nx_ (nx_ N)) (a + 1)) (a + 1) a ∧ Nz = gq_ (nx_ (nx_ N)) (a + 1) ∧ N 6 18 = nr ∧ M 5 1 = nr) → (b = 1 → SY0 b F1 Mz Nz (a + 2) ∧ Mz = nX_ (nX_ M) ∧ GWI (nx_ (nx_ N)) (a + 1) Nz) → RL b F1 Mz Nz (a + 2) → Mz 57 nr = a + 1 → (0 ≤ nr ∧ nr < Mz 5 1 ∧ nr < 10) → (F1 ≤ F ∧ (b = 1 → F1 = F) ∧ GNO b F F1 M N Nz (a + 1)) → (M 70 (a + 1) = 100 ∧ a + 1 < 1200) → (∀ (G : mm_ → Prop) (Qtq : qt_), q46 dq nr (a + 1) Nz G Qtq → qRC dq nr N G Qtq) → V 103 [rr 1, ii a, ii (a + 1), none, none, none, none] [] Mz)
    (hQ : b = 0 → ∀ Mx', XPb M Mx' → (∀ (G : mm_ → Prop) (Qtq : qt_), (∀ M', SQp Mx' N M' → G M') → qRC dq nr N G Qtq) → Qt 8 Mx') :
    V 0 [rr 1, none, none, none, none, none, none] [] M := by
  have hE := h.1.1.2.1
  have hT := h.1.1.1
  have ha := ER_a hE
  have h01 := bl01 hE
  have hnr := h.2.1.2.1.2.1
  have fl := h.1.2.2.2.2.1.2.2.1
  refine b_122_0 (Tr_mono _) hV hW _ ?_
  refine y_105 hE (by omega) (fun hb => gS_o (by have := hS hb; omega)) (fun h12 hE1 => ?_) (fun hb h12 => ?_)
  rotate_left
  · have hsp := SQ_bf hE hb (k := 2) (by decide) QA_rf
    exact hQ hb _ XPb_fl (fun G Qtq hg => j_228r hT hE hb (by decide) hk h12 (by rw [if_neg (by decide)]; exact q245z hsp.1 (hg _ (SQ_P hsp))))
  have S1 := SYS_go h hE1
  have hT1 := S1.1.1.1
  have x70 : nX_ M 70 = M 70 := nX_ne (by decide)
  have toQ : ∀ {G : mm_ → Prop} {Qtq : qt_}, (∀ V' : vv_, Cl_ wd0 (Tr_ wd0 pg0 (dq + 18)) V' (rv_ G) Qtq m_245 → Wk_ V' → Tr_ wd0 pg0 (dq + 18) 233 [.inr (.inr 6)] (nx_ N) (ri_ fun v1 M1 =>
  Tr_ wd0 pg0 (dq + 18) 227 [.inr (.inr 6)] M1 (ri_ fun v2 M2 =>
   (if v2 = 0 then
    (bl_ (M2 6 16) → (if M2 6 16 = 0 then
     (if nr = 10 then
      (0 ≤ v1 ∧ v1 < 1202) ∧
       Tr_ wd0 pg0 (dq + 18) 231 [.inr (.inr 6), .inl 2, .inl (M2 150 v1)] M2 (rv_ fun M3 =>
       rv_ G [] M3) Qtq
     else
      V' 38 [rr 6, ii nr, ii v1, none, none, none, none, none, none, none, none, none, none] [] M2)
    else
     V' 38 [rr 6, ii nr, ii v1, none, none, none, none, none, none, none, none, none, none] [] M2))
   else
    rv_ G [] M2)) Qtq) Qtq) → qRC dq nr N G Qtq := fun hq => j_228t hT hE (by decide) hk h12 (by
      rw [if_neg (by decide)]
      exact t_245 fun V' hV' hW' => b_245_0 (Tr_mono _) hV' hW' _ _ (hq V' hV' hW'))
  refine y_107 hE1 (fun hb => by rw [x70]; exact tS_o (hS hb).1.1 (hS hb).1.2) (fun k1 h13 hE2 => ?_) (fun hb k1 h13 => ?_) (fun hb k1 => ?_)
  rotate_left
  · have hsp := SQ_bf hE1 hb (k := 2) (by decide) QA_rf
    exact hQ hb _ (XPb_tr XPb_nX XPb_fl) (fun G Qtq hg => toQ fun V' hV' hW' => j_233r hT1 hE1 hb k1 h13 (q_227s hsp.1 (by rw [if_neg (by decide)]; exact rv_i (hg _ (SQp_tr QPb_nx (SQ_P hsp))))))
  · have hsp := SQ_bf hE1 hb (k := 1) (by decide) QA_rf
    exact hQ hb _ (XPb_tr XPb_nX XPb_fl) (fun G Qtq hg => toQ fun V' hV' hW' => j_233w hT1 hE1 hb k1 (q_227s hsp.1 (by rw [if_neg (by decide)]; exact rv_i (hg _ (SQp_tr QPb_nx (SQ_P hsp))))))
  have S2 := SYS_go S1 hE2
  have hT2 := S2.1.1.1
  have k1' : M 70 (a + 1) = 100 := by rw [← x70]; exact k1
  have r2 : ∀ r : Nat, r ≠ 1 → nX_ (nX_ M) r = M r := fun r h => by rw [nX_ne h, nX_ne h]
  have nmt : nm9_ (nX_ (nX_ M)) (a + 1) := ⟨gd_c (nX_ne (by decide)) hE1.1, by rw [r2 70 (by decide)]; exact k1'⟩
  have e8 : nX_ (nX_ M) 1 8 = b := hE2.2.2.2.2.2.2.1
  have e16 : nx_ (nx_ N) 6 16 = b := hE2.2.2.2.2.2.2.2.1
  have e12 : nX_ (nX_ M) 1 2 = 5 := S2.1.1.2.2
  have e5 : nX_ (nX_ M) 5 = M 5 := r2 5 (by decide)
  have e13 : M 1 3 = a := hE.2.1
  have glu := S2.1.2.1.2.2.2.2
  have s5 := S2.1.2.1.1.1.1
  have r5 := S2.1.2.1.2.2.1.1
  have p5 := S2.1.2.1.2.1.1.1
  have g1 := glu.1
  rw [e5] at s5 r5 p5 g1
  have f7 : nX_ (nX_ M) 1 7 = M 1 7 := by rw [nX_1 (by decide), nX_1 (by decide)]
  have toQ2 : ∀ {G : mm_ → Prop} {Qtq : qt_}, (b = 0 → nr ≠ 10) → (∀ V' : vv_, Cl_ wd0 (Tr_ wd0 pg0 (dq + 18)) V' (rv_ G) Qtq m_245 → Wk_ V' → V' 38 [rr 6, ii nr, ii (a + 1), none, none, none, none, none, none, none, none, none, none] [] (nx_ (nx_ N))) → qRC dq nr N G Qtq := fun h6 hq => toQ fun V' hV' hW' => j_233t hT1 hE1 k1 h13 (q_227g (ER_goq hE2) (by
    rw [if_pos rfl]
    intro _
    rw [e16]
    rcases h01 with hb | hb
    · rw [if_pos hb, if_neg (h6 hb)]; exact hq V' hV' hW'
    · rw [if_neg (by (clear hV hW h hk h9 hS hK hQ hE hT ha hnr fl h12 hE1 S1 hT1 x70 toQ k1 h13 hE2 S2 hT2 k1' r2 nmt e8 e12 e5 e13 glu s5 r5 p5 g1 f7 h6 hq hV' hW'; lia))]; exact hq V' hV' hW'))
  intro _
  rw [e8, e13]
  rcases h01 with hb | hb
  · rw [if_pos hb]
    intro _
    have e51 : M 5 1 = nr := (h.2.1.2.2 hb).2.1
    have e9 : nX_ (nX_ M) 1 9 = 0 := by rw [nX_1 (by decide), nX_1 (by decide)]; exact h9 hb
    rw [if_pos e9]
    refine ⟨e12, ?_⟩
    rw [e5, e51]
    by_cases c6 : nr = 10
    · rw [if_pos c6]
      refine x_110 (by (clear hV hW h hk h9 hS hK hQ hE hT hnr fl hE1 S1 hT1 x70 toQ k1 hE2 S2 hT2 k1' r2 nmt e8 e16 e12 e5 glu s5 r5 p5 g1 f7 toQ2 hb e51 e9 c6; omega)) (by (clear hV hW h hk h9 hS hK hQ hE hT hnr fl hE1 S1 hT1 x70 toQ k1 hE2 S2 hT2 k1' r2 nmt e8 e16 e12 e5 glu s5 r5 p5 g1 f7 toQ2 hb e51 e9 c6; omega)) (fun e => absurd e (by decide)) (fun _ => ?_)
      have e150 : nx_ (nx_ N) 150 (a + 1) = nX_ (nX_ M) 71 (a + 1) := ((hT2 (a + 1) nmt.1).2.1).symm
      have sp2 : sp_ (bf_ (nx_ (nx_ N)) 2 (nX_ (nX_ M) 71 (a + 1))) := bf_sp (e16.trans hb) (by decide)
      refine hQ hb _ (XPb_tr (XPb_tr XPb_nX XPb_nX) XPb_fl) (fun G Qtq hg => toQ fun V' hV' hW' => j_233t hT1 hE1 k1 h13 (q_227g (ER_goq hE2) ?_))
      rw [if_pos rfl]
      intro _
      rw [e16, if_pos hb, if_pos c6]
      refine ⟨by (clear hV hW h hk h9 hS hK hQ hE hT hnr fl hE1 S1 hT1 x70 toQ k1 hE2 S2 hT2 k1' r2 nmt e8 e16 e12 e5 glu s5 r5 p5 g1 f7 toQ2 hb e51 e9 c6 e150 sp2 hg hV' hW'; omega), q_231o (hE2.2.2.2.2.2.2.2.2.2.1 hb) ?_⟩
      rw [e150]
      refine rv_i (hg _ ⟨sp2, ?_, ?_, ?_, QPb_tr (QPb_tr QPb_nx QPb_nx) (QF_P bf_QF)⟩)
      · unfold in9_; rw [bf_6 (by decide) (by decide), hE2.2.2.1]; (clear hV hW h hk h9 hS hK hQ hE hT hnr fl hE1 S1 hT1 x70 toQ k1 hE2 S2 hT2 k1' r2 nmt e8 e16 e12 e5 glu s5 r5 p5 g1 f7 toQ2 hb e51 e9 c6 e150 sp2 hg hV' hW'; omega)
      · unfold bf_ flX_; rw [up_off (by decide), up_at, up_off (by decide), up_at]
      · refine ⟨?_, fl_b7 (by assumption)⟩; unfold bf_ flX_; rw [up_at, up_at]
    rw [if_neg c6]
    have n6 : nr < 10 := by (clear hV hW h hk h9 hS hK hQ hE hT ha hnr fl h12 hE1 S1 hT1 x70 toQ k1 h13 hE2 S2 hT2 k1' r2 nmt e8 e16 e12 e5 e13 glu s5 p5 g1 f7 toQ2 hb e9; lia)
    have glt : ∀ u, GLM (nX_ (nX_ M)) u → u < a + 1 := fun u hu => by
      have : GLM M u := by
        unfold GLM at hu ⊢
        rw [r2 5 (by decide), r2 56 (by decide), r2 57 (by decide), r2 58 (by decide)] at hu
        exact hu
      have := h.1.2.2.2.1.2 hb u this
      (clear hV hW h hk h9 hS hK hQ hE hT ha hnr fl h12 hE1 S1 hT1 x70 toQ k1 h13 hE2 S2 hT2 k1' r2 nmt e8 e16 e12 e5 glu s5 r5 p5 g1 f7 toQ2 hb e51 e9 c6 n6 hu; omega)
    have Z := SY_rt (t := a + 1) (f := a) S2.1 hb nmt (by omega) glt (by rw [e5, e51]; exact n6) (by rw [f7]; (clear hV hW h hk h9 hS hK hQ hE hT ha hnr h12 hE1 S1 hT1 x70 toQ k1 h13 hE2 S2 hT2 k1' r2 nmt e8 e16 e12 e5 glu s5 r5 p5 g1 toQ2 hb e51 e9 c6 n6 glt; lia))
    rw [e5, e51, show a + 1 + 1 = a + 2 by omega] at Z
    have g51 : gd1_ (nX_ (nX_ M)) (nx_ (nx_ N)) (a + 1) 5 1 = nr := by rw [gd1_r (by decide), e5]; exact e51
    have g12 : gd1_ (nX_ (nX_ M)) (nx_ (nx_ N)) (a + 1) 1 2 = 5 := by rw [gd1_1 (by decide) (by decide) (by decide)]; exact e12
    have kk := rx1_k (M := gd1_ (nX_ (nX_ M)) (nx_ (nx_ N)) (a + 1)) (t := a + 1) (f := a)
    rw [g51] at kk
    have RV := SY_RL Z
    have ez : gq_ (nx_ (nx_ N)) (a + 1) 6 18 = N 6 18 := by rw [gq_6 (by decide), nx_6 (by decide), nx_6 (by decide)]
    have Rz : RL b (Fg_ F (nX_ (nX_ M)) (nx_ (nx_ N)) (a + 1)) (rx1_ (gd1_ (nX_ (nX_ M)) (nx_ (nx_ N)) (a + 1)) (a + 1) a) (gq_ (nx_ (nx_ N)) (a + 1)) (a + 2) := RL_c RV (ER_1 RV.1.2.1 rfl rfl (fun _ _ => rfl) (fun i hi => (rqv_6 (fun e => by rw [e] at hi; revert hi; decide)).symm)) (fun _ _ => rfl) rfl RV.2.2 (fun k hk => (rqv_r (fun e => by rw [e] at hk; revert hk; decide) (fun e => by rw [e] at hk; revert hk; decide)).symm) ⟨(rqv_6 (by decide)).symm, (rqv_6 (by decide)).symm⟩
    have fin : V 64 [rr 1, ii a, ii (a + 1), none, none, none, none] [] (gd1_ (nX_ (nX_ M)) (nx_ (nx_ N)) (a + 1)) := by
      refine b_122_64 (Tr_mono _) hV hW _ _ _ ?_
      have b6 : 0 ≤ gd1_ (nX_ (nX_ M)) (nx_ (nx_ N)) (a + 1) 5 1 ∧ gd1_ (nX_ (nX_ M)) (nx_ (nx_ N)) (a + 1) 5 1 < 10 := by rw [g51]; (clear hV hW h hk h9 hS hK hQ hE hT ha hnr fl h12 hE1 S1 hT1 x70 toQ k1 h13 hE2 S2 hT2 k1' r2 nmt e8 e16 e12 e5 e13 glu s5 p5 g1 f7 toQ2 hb e9 c6 glt Z g12 RV ez Rz; omega)
      refine ⟨g12, b6, g12, b6, g12, ?_⟩
      rw [w32_id (x := gd1_ (nX_ (nX_ M)) (nx_ (nx_ N)) (a + 1) 5 1 + 1) (by (clear hV hW h hk h9 hS hK hQ hE hT ha hnr fl h12 hE1 S1 hT1 x70 toQ k1 h13 hE2 S2 hT2 k1' r2 nmt e8 e16 e12 e5 e13 glu s5 p5 g1 f7 toQ2 hb e9 c6 glt Z g12 RV ez Rz b6; lia)) (by (clear hV hW h hk h9 hS hK hQ hE hT ha hnr fl h12 hE1 S1 hT1 x70 toQ k1 h13 hE2 S2 hT2 k1' r2 nmt e8 e16 e12 e5 e13 glu s5 p5 g1 f7 toQ2 hb e9 c6 glt Z g12 RV ez Rz b6; omega))]
      refine hK _ (rx1_ (gd1_ (nX_ (nX_ M)) (nx_ (nx_ N)) (a + 1)) (a + 1) a) _ (fun _ => ⟨Z, rfl, rfl, by have e := r5.2.2; rw [nx_6 (by decide), nx_6 (by decide)] at e; rw [e]; exact e51, e51⟩) (fun hb1 => by (clear hV hW h hk h9 hS hK hQ hE hT ha hnr fl h12 hE1 S1 hT1 x70 toQ k1 h13 hE2 S2 hT2 k1' r2 nmt e8 e12 e5 e13 glu s5 r5 p5 g1 f7 toQ2 e51 e9 c6 n6 glt Z g51 g12 kk RV ez Rz b6; lia)) Rz kk.2.1 ⟨hnr, by rw [kk.1]; omega, n6⟩ ⟨Fg_le, fun hb1 => by omega, (GNO_c (M2 := M) (N2 := N) (by rw [hb]; exact GNO_0 S2.1.2.1.1.1 S2.1.2.1.2.2.1 S2.1.2.1.2.1.1) (fun r hr => (r2 r (fun e => by rw [e] at hr; revert hr; decide)).symm) (by rw [nx_ne (by decide), nx_ne (by decide)]) (by rw [nx_6 (by decide), nx_6 (by decide)]) (by rw [nx_6 (by decide), nx_6 (by decide)]))⟩ ⟨k1', h13⟩ (fun G Qtq hq => toQ2 (fun _ => c6) fun V' hV' hW' => b_245_38 (Tr_mono _) hV' hW' _ _ _ (q_235n (ER_goq hE2) (e16.trans hb) (by (clear hV hW h hk h9 hS hK hQ hE hT ha hnr fl h12 hE1 S1 hT1 x70 toQ k1 h13 hE2 S2 hT2 k1' r2 nmt e8 e16 e12 e5 e13 glu f7 toQ2 hb e9 c6 glt Z g12 RV ez Rz b6 hq hV' hW'; lia)) (by (clear hV hW h hk h9 hS hK hQ hE hT hnr fl hE1 S1 hT1 x70 toQ k1 hE2 S2 hT2 k1' r2 nmt e8 e16 e12 e5 glu s5 r5 p5 g1 f7 toQ2 hb e51 e9 c6 n6 glt Z g51 g12 RV ez Rz b6 hq hV' hW'; lia)) ?_))
      exact hq V' hV' hW'
    refine x_110 (by (clear hV hW h hk h9 hS hK hQ hE hT hnr fl hE1 S1 hT1 x70 toQ k1 hE2 S2 hT2 k1' r2 nmt e8 e16 e12 e5 glu s5 r5 p5 g1 f7 toQ2 hb e51 e9 c6 n6 glt Z g51 g12 RV ez Rz fin; lia)) (by (clear hV hW h hk h9 hS hK hQ hE hT hnr fl hE1 S1 hT1 x70 toQ k1 hE2 S2 hT2 k1' r2 nmt e8 e16 e12 e5 glu s5 r5 p5 g1 f7 toQ2 hb e51 e9 c6 n6 glt Z g51 g12 RV ez Rz fin; lia)) (fun _ => ?_) (fun e => absurd rfl e)
    refine x_111s hT2 e12 S2.1.2.1.1.1 S2.1.2.1.2.2.1 S2.1.2.1.2.1.1 nmt (fun c => ?_) (fun c => ?_)
    · rw [if_pos rfl]
      unfold gd1_ at fin
      rw [if_pos c] at fin; exact fin
    · rw [if_neg (by decide)]
      unfold gd1_ at fin
      rw [if_neg c] at fin
      exact x_116 (by omega) (by omega) (by rw [f7]; exact hE.2.2.2.2.2.2.2.2.2.2.2.1) (by rw [f7]; (clear hV hW h hk h9 hS hK hQ hE hT hnr hE1 S1 hT1 x70 toQ k1 hE2 S2 hT2 k1' r2 nmt e8 e16 e12 e5 glu s5 r5 p5 g1 toQ2 hb e51 e9 c6 n6 glt Z g51 g12 RV ez Rz fin c; lia)) fin
  · rw [if_neg (by omega)]
    have tm2 := (hS hb).2
    obtain ⟨Nz, ⟨hw, hwn⟩, hq⟩ := q_235j (N := nx_ (nx_ N)) (t := a + 1) (e16.trans hb) (by (clear hV hW h hk h9 hS hK hQ hE hT ha fl h12 hE1 S1 hT1 x70 toQ k1 h13 hE2 S2 hT2 k1' r2 nmt e8 e16 e12 e5 e13 glu f7 toQ2 hb; omega)) (by (clear hV hW h hk h9 hS hK hQ hE hT hnr fl hE1 S1 hT1 x70 toQ k1 hE2 S2 hT2 k1' r2 nmt e8 e16 e12 e5 glu s5 r5 p5 g1 f7 toQ2 hb; lia))
    have gm : GLM (nX_ (nX_ M)) (a + 1) := .inr (.inl ⟨nr, by rw [e5]; exact ⟨hnr, tm2.1⟩, by rw [r2 57 (by decide)]; exact tm2.2⟩)
    have Z := SY_gw S2.1 hb nmt gm hw
    rw [show a + 1 + 1 = a + 2 by omega] at Z
    refine hK F (nX_ (nX_ M)) Nz (fun hb0 => by omega) (fun _ => ⟨Z, rfl, hw⟩) (SY_RL Z) (by rw [r2 57 (by decide)]; exact tm2.2) ⟨hnr, by rw [e5]; exact tm2.1, by (clear hV hW h hk h9 hS hK hQ hE hT ha hnr fl h12 hE1 S1 hT1 x70 toQ k1 h13 hE2 S2 hT2 k1' r2 nmt e8 e16 e12 e5 e13 glu s5 p5 g1 f7 toQ2 hb hq hw hwn gm Z; omega)⟩ ⟨Int.le_refl _, fun _ => rfl, (GNO_c (M2 := M) (N2 := N) (by rw [hb]; exact GNO_1 S2.1.2.1.1.1 S2.1.2.1.2.2.1 S2.1.2.1.2.1.1 hT2 S2.1.2.1.2.2.2.2 nmt (e16.trans hb) hE2.2.2.2.2.2.2.2.2.2.2.1.2.1 ⟨hw, hwn⟩) (fun r hr => (r2 r (fun e => by rw [e] at hr; revert hr; decide)).symm) (by rw [nx_ne (by decide), nx_ne (by decide)]) (by rw [nx_6 (by decide), nx_6 (by decide)]) (by rw [nx_6 (by decide), nx_6 (by decide)]))⟩ ⟨k1', h13⟩ (fun G Qtq hg => toQ2 (fun hb0 => by (clear hV hW h hk h9 hS hK hQ hE hT ha hnr fl h12 hE1 S1 hT1 x70 toQ k1 h13 hE2 S2 hT2 k1' r2 nmt e8 e12 e5 e13 glu s5 r5 p5 g1 f7 toQ2 tm2 hq hw hwn gm Z hg; lia)) fun V' hV' hW' => b_245_38 (Tr_mono _) hV' hW' _ _ _ (hq _ _ _ ?_))
    exact hg V' hV' hW'
end RTg
end T285_rt

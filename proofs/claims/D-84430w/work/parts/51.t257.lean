section T257_pn
/-! a process's name (X 126 V 0 | Q 252 V 0) -/
def TMT (M : mm_) (np : Int) : Int → Bool := fun t => decide (np < M 5 2 ∧ M 58 np = t)
def TOK (b : Int) (tm : Int → Bool) (np : Int) (M M' : mm_) : Prop := (b = 0 → tm (M' 58 np) = true) ∧ (b = 1 → tm = TMT M np)
def pnS (κ : Int → Int) (tm : Int → Bool) (a : Int) : Option Int := (gS a).bind fun a1 => (tS κ 100 a1).bind fun a2 => if tm a1 then some a2 else none
def qPC (dq : Nat) (np : Int) (N : mm_) (G : mm_ → Prop) (Qt : qt_) : Prop := Tr_ wd0 pg0 (dq + 19) 228 [.inr (.inr 6), .inl 2] N (ri_ fun v M3 => if v = 0 then False else Tr_ wd0 pg0 (dq + 19) 252 [.inr (.inr 6), .inl np] M3 (rv_ G) Qt) Qt
def pzX : List Nat := [1, 5, 58, 123, 124, 125, 126, 128]
def pzQ : List Nat := [6, 154, 167, 170, 171, 172, 173, 174, 175, 190, 191]
/-- what the name changes -/
def PZ (b F F1 : Int) (M N M1 N1 : mm_) (T : Int) : Prop := ((∀ r : Nat, r ∉ pzX → M1 r = M r) ∧ (∀ (r : Nat) i, r ≠ 1 → r ≠ 5 → i ≠ T → M1 r i = M r i) ∧ (∀ i : Int, i ≠ 2 → M1 5 i = M 5 i) ∧ (∀ i : Int, i ∉ [3, 4, 5, 7] → M1 1 i = M 1 i))
  ∧ ((∀ r : Nat, r ∉ pzQ → N1 r = N r) ∧ (∀ (r : Nat) i, r ∉ [6, 190, 191] → i ≠ T → N1 r i = N r i) ∧ (∀ i : Int, i ∉ [12, 13, 14, 19, 58] → N1 6 i = N 6 i)) ∧ (b = 1 → (∀ r : Nat, r ≠ 1 → M1 r = M r) ∧ (∀ r : Nat, r ≠ 6 → N1 r = N r) ∧ (∀ i : Int, i ∉ [12, 13, 14] → N1 6 i = N 6 i) ∧ (N1 6 13 = 0 → N 6 13 = 0)) ∧ (F1 ≤ F ∧ (b = 1 → F1 = F))
  ∧ (b = 0 → M1 5 2 = T + 1 ∧ (M1 123 T = 0 ∧ M1 124 T = 0 ∧ M1 126 T = 0 ∧ M1 128 T = 0) ∧ N1 170 T = 0 ∧ N1 174 T = 0)
section PNm
variable {dq : Nat} {b F F1 : Int} {x2 x3 x4 x5 c T y1 y2 ns nr np t : Int} {Kv G : mm_ → Prop} {Qt Qtq : qt_} {V V' : vv_} {M N Mx' M' N' M1 N1 : mm_} {a a' : Int}
theorem q252z [Inhabited gh_] {x : Int} (hs : sp_ N) (h : G N) : Tr_ wd0 pg0 (dq + 19) 252 [.inr (.inr 6), .inl x] N (rv_ G) Qtq := t_252 fun V hV hW => b_252_0 (Tr_mono _) hV hW _ _ (q_233s hs (q_227s hs (by rw [if_neg (by decide)]; exact rv_i h)))
theorem PZ_0 [Inhabited gh_] (h52 : M 5 2 = T) : PZ 0 F (Fg_ F (nX_ (nX_ M)) (nx_ (nx_ N)) t) M N (zX_ (gd1_ (nX_ (nX_ M)) (nx_ (nx_ N)) t) t) (zQ_ (gq_ (nx_ (nx_ N)) t) T t) T := by
  have e52 : gd1_ (nX_ (nX_ M)) (nx_ (nx_ N)) t 5 2 = T := by rw [gd1_r (by decide), nX_ne (by decide), nX_ne (by decide)]; exact h52
  have kX := zX_k (M := gd1_ (nX_ (nX_ M)) (nx_ (nx_ N)) t) (t := t)
  rw [e52] at kX
  have kQ := zQ_k (N := gq_ (nx_ (nx_ N)) t) (T := T) (t := t)
  refine ⟨⟨fun r hr => ?_, fun r i h1 h5 hi => ?_, fun i hi => ?_, fun i hi => ?_⟩, ⟨fun r hr => ?_, fun r i hr hi => ?_, fun i hi => ?_⟩, fun hb => absurd hb (by decide), ⟨Fg_le, fun hb => absurd hb (by decide)⟩, fun _ => ⟨kX.1, ⟨kX.2.2.2.2.1, kX.2.2.1, kX.2.2.2.1, kX.2.2.2.2.2.1⟩, kQ.2.2.2.1, kQ.2.2.2.2.2.2.2.1⟩⟩
  · have h1 : r ≠ 1 := fun e => hr (by rw [e]; decide)
    rw [zX_r (fun e => hr (List.mem_cons_of_mem _ e)), gd1_r h1, nX_ne h1, nX_ne h1]
  · rw [zX_o h5 (by rw [e52]; exact hi), gd1_r h1, nX_ne h1, nX_ne h1]
  · rw [zX_5 hi, gd1_r (by decide), nX_ne (by decide), nX_ne (by decide)]
  · have h3 : i ≠ 3 := nm_i hi (by decide)
    rw [zX_r (by decide), gd1_1 (nm_i hi (by decide)) (nm_i hi (by decide)) (nm_i hi (by decide)), nX_1 h3, nX_1 h3]
  · have h6 : r ≠ 6 := fun e => hr (by rw [e]; decide)
    rw [zQ_r (fun e => hr (by revert e; unfold pzQ; simp only [List.mem_cons, List.not_mem_nil, or_false]; (clear h52 e52 kX kQ hr h6; lia))), gq_r h6 (fun e => hr (by rw [e]; decide)) (fun e => hr (by rw [e]; decide)), nx_ne h6, nx_ne h6]
  · have h6 : r ≠ 6 := fun e => hr (by rw [e]; decide)
    rw [zQ_o h6 hi, gq_r h6 (fun e => hr (by rw [e]; decide)) (fun e => hr (by rw [e]; decide)), nx_ne h6, nx_ne h6]
  · have h2 : i ≠ 12 := nm_i hi (by decide)
    rw [zQ_6 (nm_i hi (by decide)), gq_6 (nm_i hi (by decide)), nx_6 h2, nx_6 h2]
theorem PZ_1 [Inhabited gh_] (hw : GWI (nx_ (nx_ N)) t N') : PZ 1 F F M N (nX_ (nX_ M)) N' T := by
  have xr : ∀ r : Nat, r ≠ 1 → nX_ (nX_ M) r = M r := fun r h => by rw [nX_ne h, nX_ne h]
  have qr : ∀ r : Nat, r ≠ 6 → N' r = N r := fun r h => by rw [GWI_r hw h, nx_ne h, nx_ne h]
  have q6 : ∀ i : Int, i ≠ 12 → i ≠ 13 → i ≠ 14 → N' 6 i = N 6 i := fun i h h' h'' => by rw [GWI_6 hw h' h'', nx_6 h, nx_6 h]
  refine ⟨⟨fun r hr => xr r (fun e => hr (by rw [e]; decide)), fun r i h1 _ _ => by rw [xr r h1], fun i _ => by rw [xr 5 (by decide)], fun i hi => by rw [nX_1 (nm_i hi (by decide)), nX_1 (nm_i hi (by decide))]⟩, ⟨fun r hr => qr r (fun e => hr (by rw [e]; decide)), fun r i hr _ => by rw [qr r (fun e => hr (by rw [e]; decide))], fun i hi => q6 i (nm_i hi (by decide)) (nm_i hi (by decide)) (nm_i hi (by decide))⟩, fun _ => ⟨xr, qr, fun i hi => q6 i (nm_i hi (by decide)) (nm_i hi (by decide)) (nm_i hi (by decide)), fun hz => ?_⟩, ⟨Int.le_refl _, fun _ => rfl⟩, fun hb => absurd hb (by decide)⟩
  rcases hw with e | ⟨e, _⟩
  · rw [e, nx_6 (by decide), nx_6 (by decide)] at hz; exact hz
  · rw [e] at hz
    unfold nt_ at hz
    by_cases c : nx_ (nx_ N) 6 16 = 0
    · rw [if_pos c, nx_6 (by decide), nx_6 (by decide)] at hz; exact hz
    · rw [if_neg c] at hz
      by_cases c2 : nx_ (nx_ N) 6 13 = 0 ∨ nx_ (nx_ N) 150 t < nx_ (nx_ N) 6 14 ∨ nx_ (nx_ N) 150 t = nx_ (nx_ N) 6 14 ∧ 3 < nx_ (nx_ N) 6 13
      · rw [if_pos c2, bf_13] at hz; exact absurd hz (by decide)
      · rw [if_neg c2, nx_6 (by decide), nx_6 (by decide)] at hz; exact hz
theorem y_pnm [Inhabited gh_] (hgh : GHP) (hV : Cl_ wd0 (Tr_ wd0 pg0 130) V (rv_ Kv) Qt m_126) (hW : Wk_ V) (h : SYS b F M N a ns nr np) (hk : M 70 a = 2) (hS : b = 1 → pnS (M 70) (TMT M np) a ≠ none)
    (hK : ∀ F1 Mz Nz, SY0 b F1 Mz Nz (a + 2) → PZ b F F1 M N Mz Nz np → GNO b F F1 M N Nz (a + 1) → Mz 58 np = a + 1 → np < Mz 5 2 → HDR b F1 (sT_ Mz np) (up_ Nz 6 61 np) (a + 2) → (∀ tm, TOK b tm np M Mz → pnS (M 70) tm a = some (a + 2)) → (∀ (G : mm_ → Prop) (Qtq : qt_), q131 dq np (a + 1) (up_ Nz 6 61 np) G Qtq → qPC dq np N G Qtq) → z158 V Qt (a + 1) np (sT_ Mz np))
    (hQ : b = 0 → ∀ Mx', XPb M Mx' → (∀ (G : mm_ → Prop) (Qtq : qt_), (∀ M', SQp Mx' N M' → G M') → qPC dq np N G Qtq) → Qt 8 Mx') :
    V 0 [rr 1, none, none, none, none, none, none] [] M := by
  have hE := h.1.1.2.1
  have hT := h.1.1.1
  have ha := ER_a hE
  have h01 := bl01 hE
  have hnp := h.2.1.2.1.2.2
  have fl := h.1.2.2.2.2.1.2.2.1
  have b76 := h.1.2.2.2.2.1.2.1
  refine b_126_0 (Tr_mono _) hV hW _ ?_
  refine y_105 hE (by (clear hgh hV hW h hS hK hQ hE hT ha h01 hnp fl b76; lia)) (fun hb => bind_n (hS hb)) (fun h12 hE1 => ?_) (fun hb h12 => ?_)
  rotate_left
  · have hsp := SQ_bf hE hb (k := 2) (by decide) QA_rf
    exact hQ hb _ XPb_fl (fun G Qtq hg => j_228r hT hE hb (by decide) hk h12 (by rw [if_neg (by decide)]; exact q252z hsp.1 (hg _ (SQ_P hsp))))
  have S1 := SYS_go h hE1
  have hT1 := S1.1.1.1
  have x70 : nX_ M 70 = M 70 := nX_ne (by decide)
  have toQ : ∀ {G : mm_ → Prop} {Qtq : qt_}, (∀ V' : vv_, Cl_ wd0 (Tr_ wd0 pg0 (dq + 18)) V' (rv_ G) Qtq m_252 → Wk_ V' → Tr_ wd0 pg0 (dq + 18) 233 [.inr (.inr 6)] (nx_ N) (ri_ fun v1 M1 =>
  Tr_ wd0 pg0 (dq + 18) 227 [.inr (.inr 6)] M1 (ri_ fun v2 M2 =>
   (if v2 = 0 then
    (bl_ (M2 6 16) → (if M2 6 16 = 0 then
     (if np = 6 then
      (0 ≤ v1 ∧ v1 < 1202) ∧
       Tr_ wd0 pg0 (dq + 18) 231 [.inr (.inr 6), .inl 2, .inl (M2 150 v1)] M2 (rv_ fun M3 =>
       rv_ G [] M3) Qtq
     else
      V' 38 [rr 6, ii np, ii v1, none, none, none, none] [] M2)
    else
     V' 38 [rr 6, ii np, ii v1, none, none, none, none] [] M2))
   else
    rv_ G [] M2)) Qtq) Qtq) → qPC dq np N G Qtq := fun hq => j_228t hT hE (by decide) hk h12 (by
      rw [if_neg (by decide)]
      exact t_252 fun V' hV' hW' => b_252_0 (Tr_mono _) hV' hW' _ _ (hq V' hV' hW'))
  refine y_107 hE1 (fun hb => by
    rw [x70]
    have := hS hb
    unfold pnS at this
    rw [gS_e h12, Option.bind_some] at this
    exact bind_n this) (fun k1 h13 hE2 => ?_) (fun hb k1 h13 => ?_) (fun hb k1 => ?_)
  rotate_left
  · have hsp := SQ_bf hE1 hb (k := 2) (by decide) QA_rf
    exact hQ hb _ (XPb_tr XPb_nX XPb_fl) (fun G Qtq hg => toQ fun V' hV' hW' => j_233r hT1 hE1 hb k1 h13 (q_227s hsp.1 (by rw [if_neg (by decide)]; exact rv_i (hg _ (SQp_tr QPb_nx (SQ_P hsp))))))
  · have hsp := SQ_bf hE1 hb (k := 1) (by decide) QA_rf
    exact hQ hb _ (XPb_tr XPb_nX XPb_fl) (fun G Qtq hg => toQ fun V' hV' hW' => j_233w hT1 hE1 hb k1 (q_227s hsp.1 (by rw [if_neg (by decide)]; exact rv_i (hg _ (SQp_tr QPb_nx (SQ_P hsp))))))
  have S2 := SYS_go S1 hE2
  have hT2 := S2.1.1.1
  have k1' : M 70 (a + 1) = 100 := by rw [← x70]; exact k1
  have r2 : ∀ r : Nat, r ≠ 1 → nX_ (nX_ M) r = M r := fun r h => by rw [nX_ne h, nX_ne h]
  have nmt : nm9_ (nX_ (nX_ M)) (a + 1) := ⟨gd_c (nX_ne (by decide)) hE1.1, by rw [r2 70 (by decide)]; exact k1'⟩
  have e8 : nX_ (nX_ M) 1 8 = b := hE2.2.2.2.2.2.2.1
  have e16 : nx_ (nx_ N) 6 16 = b := hE2.2.2.2.2.2.2.2.1
  have e12 : nX_ (nX_ M) 1 2 = 5 := S2.1.1.2.2
  have e33 : nX_ (nX_ M) 1 33 = np := S2.2.1.1.2.2
  have e5 : nX_ (nX_ M) 5 = M 5 := r2 5 (by decide)
  have glu := S2.1.2.1.2.2.2.2
  have a52 := S2.1.2.1.2.1.1.1
  have eS : ∀ tm, tm (a + 1) = true → pnS (M 70) tm a = some (a + 2) := fun tm htm => by
    unfold pnS
    rw [gS_e h12, Option.bind_some, tS_e k1' h13, Option.bind_some, if_pos htm]
    rw [show a + 1 + 1 = a + 2 by omega]
  have toQ2 : ∀ {G : mm_ → Prop} {Qtq : qt_}, (b = 0 → np ≠ 6) → (∀ V' : vv_, Cl_ wd0 (Tr_ wd0 pg0 (dq + 18)) V' (rv_ G) Qtq m_252 → Wk_ V' → V' 38 [rr 6, ii np, ii (a + 1), none, none, none, none] [] (nx_ (nx_ N))) → qPC dq np N G Qtq := fun h6 hq => toQ fun V' hV' hW' => j_233t hT1 hE1 k1 h13 (q_227g (ER_goq hE2) (by
    rw [if_pos rfl]
    intro _
    rw [e16]
    rcases h01 with hb | hb
    · rw [if_pos hb, if_neg (h6 hb)]; exact hq V' hV' hW'
    · rw [if_neg (by (clear hgh hV hW h hk hS hK hQ hE hT ha hnp fl b76 h12 hE1 S1 hT1 x70 toQ k1 h13 hE2 S2 hT2 k1' r2 nmt e8 e12 e33 e5 glu a52 eS h6 hq hV' hW'; lia))]; exact hq V' hV' hW'))
  -- from the tables on
  have z : ∀ {x : Int} {Mz : mm_}, Mz 1 2 = 5 → Mz 1 33 = np → np < 6 → z158 V Qt x np (sT_ Mz np) → V 158 [rr 1, ii x, none, none, none, none, none] [] Mz := fun {x Mz} h2 h33 h6 hz => by
    refine b_126_158 (Tr_mono _) hV hW _ _ ?_
    rw [h33, w32_id (x := np + 1) (by (clear hgh hV hW h hk hS hK hQ hE hT ha h01 fl b76 h12 hE1 S1 hT1 x70 toQ k1 h13 hE2 S2 hT2 k1' r2 nmt e8 e16 e12 e5 glu a52 eS toQ2 h2 hz; lia)) (by (clear hgh hV hW h hk hS hK hQ hE hT ha h01 fl b76 h12 hE1 S1 hT1 x70 toQ k1 h13 hE2 S2 hT2 k1' r2 nmt e8 e16 e12 e5 glu a52 eS toQ2 h2 hz; lia))]
    exact ⟨h2, hz⟩
  intro _
  rw [e8]
  rcases h01 with hb | hb
  · rw [if_pos hb]
    have e52 : M 5 2 = np := (h.2.1.2.2 hb).2.2
    refine ⟨e12, ?_⟩
    rw [e5, e52]
    by_cases c6 : np = 6
    · rw [if_pos c6]
      refine x_110 (by omega) (by omega) (fun e => absurd e (by decide)) (fun _ => ?_)
      have e150 : nx_ (nx_ N) 150 (a + 1) = nX_ (nX_ M) 71 (a + 1) := ((hT2 (a + 1) nmt.1).2.1).symm
      have sp2 : sp_ (bf_ (nx_ (nx_ N)) 2 (nX_ (nX_ M) 71 (a + 1))) := bf_sp (e16.trans hb) (by decide)
      refine hQ hb _ (XPb_tr (XPb_tr XPb_nX XPb_nX) XPb_fl) (fun G Qtq hg => toQ fun V' hV' hW' => j_233t hT1 hE1 k1 h13 (q_227g (ER_goq hE2) ?_))
      rw [if_pos rfl]
      intro _
      rw [e16, if_pos hb, if_pos c6]
      refine ⟨by (clear hgh hV hW h hk hS hK hQ hE hT hnp fl b76 hE1 S1 hT1 x70 toQ k1 hE2 S2 hT2 k1' r2 nmt e8 e16 e12 e33 e5 glu a52 eS toQ2 z hb e52 c6 e150 sp2 hg hV' hW'; omega), q_231o (hE2.2.2.2.2.2.2.2.2.2.1 hb) ?_⟩
      rw [e150]
      refine rv_i (hg _ ⟨sp2, ?_, ?_, ?_, QPb_tr (QPb_tr QPb_nx QPb_nx) (QF_P bf_QF)⟩)
      · unfold in9_; rw [bf_6 (by decide) (by decide), hE2.2.2.1]; omega
      · unfold bf_ flX_; rw [up_off (by decide), up_at, up_off (by decide), up_at]
      · refine ⟨?_, fl_b7 (by assumption)⟩; unfold bf_ flX_; rw [up_at, up_at]
    rw [if_neg c6]
    have n6 : np < 6 := by rw [e5] at a52; (clear hgh hV hW h hk hS hK hQ hE hT ha hnp fl b76 h12 hE1 S1 hT1 x70 toQ k1 h13 hE2 S2 hT2 k1' r2 nmt e8 e16 e12 e5 glu eS toQ2 z hb; lia)
    have glt : ∀ u, GLM (nX_ (nX_ M)) u → u < a + 1 := fun u hu => by
      have : GLM M u := by
        unfold GLM at hu ⊢
        rw [r2 5 (by decide), r2 56 (by decide), r2 57 (by decide), r2 58 (by decide)] at hu
        exact hu
      have := h.1.2.2.2.1.2 hb u this
      (clear hgh hV hW h hk hS hK hQ hE hT ha hnp fl b76 h12 hE1 S1 hT1 x70 toQ k1 h13 hE2 S2 hT2 k1' r2 nmt e8 e16 e12 e33 e5 glu a52 eS toQ2 z hb e52 c6 n6 hu; omega)
    have f7 : nX_ (nX_ M) 1 7 = M 1 7 := by rw [nX_1 (by decide), nX_1 (by decide)]
    have Z := SY_ty (t := a + 1) S2.1 hb nmt (by omega) glt (by rw [e5, e52]; exact n6) (by rw [f7]; (clear hgh hV hW h hk hS hK hQ hE hT ha hnp b76 h12 hE1 S1 hT1 x70 toQ k1 h13 hE2 S2 hT2 k1' r2 nmt e8 e16 e12 e33 e5 glu a52 eS toQ2 z hb e52 c6 n6 glt; lia))
    rw [e5, e52] at Z
    have PZ0 : PZ b F (Fg_ F (nX_ (nX_ M)) (nx_ (nx_ N)) (a + 1)) M N (zX_ (gd1_ (nX_ (nX_ M)) (nx_ (nx_ N)) (a + 1)) (a + 1)) (zQ_ (gq_ (nx_ (nx_ N)) (a + 1)) np (a + 1)) np := by rw [hb]; exact PZ_0 e52
    have g52 : gd1_ (nX_ (nX_ M)) (nx_ (nx_ N)) (a + 1) 5 2 = np := by rw [gd1_r (by decide), e5]; exact e52
    have k58 : zX_ (gd1_ (nX_ (nX_ M)) (nx_ (nx_ N)) (a + 1)) (a + 1) 58 np = a + 1 := by have := (zX_k (M := gd1_ (nX_ (nX_ M)) (nx_ (nx_ N)) (a + 1)) (t := a + 1)).2.1; rw [g52] at this; exact this
    have k52 := (PZ0.2.2.2.2 hb).1
    have k12 := (PZ0.2.2.2.2 hb).2.1
    have q76 : zQ_ (gq_ (nx_ (nx_ N)) (a + 1)) np (a + 1) 6 76 = N 6 76 := PZ0.2.1.2.2 76 (by decide)
    have m12 : zX_ (gd1_ (nX_ (nX_ M)) (nx_ (nx_ N)) (a + 1)) (a + 1) 1 2 = 5 := Z.1.2.2
    have m33 : zX_ (gd1_ (nX_ (nX_ M)) (nx_ (nx_ N)) (a + 1)) (a + 1) 1 33 = np := by rw [PZ0.1.2.2.2 33 (by decide)]; exact h.2.1.1.2.2
    have fin : V 52 [rr 1, ii (a + 1), none, none, none, none, none] [] (gd1_ (nX_ (nX_ M)) (nx_ (nx_ N)) (a + 1)) := by
      have g12 : gd1_ (nX_ (nX_ M)) (nx_ (nx_ N)) (a + 1) 1 2 = 5 := by rw [gd1_1 (by decide) (by decide) (by decide)]; exact e12
      refine b_126_52 (Tr_mono _) hV hW _ _ ?_
      have b6 : 0 ≤ gd1_ (nX_ (nX_ M)) (nx_ (nx_ N)) (a + 1) 5 2 ∧ gd1_ (nX_ (nX_ M)) (nx_ (nx_ N)) (a + 1) 5 2 < 6 := by rw [g52]; (clear hgh hV hW h hk hS hK hQ hE hT ha fl b76 h12 hE1 S1 hT1 x70 toQ k1 h13 hE2 S2 hT2 k1' r2 nmt e8 e16 e12 e5 glu a52 eS toQ2 z hb c6 glt f7 Z PZ0 k58 k12 q76 m12 g12; lia)
      refine ⟨g12, b6, g12, g12, b6, g12, g12, b6, g12, g12, b6, g12, g12, b6, g12, g12, b6, g12, ?_⟩
      rw [w32_id (x := gd1_ (nX_ (nX_ M)) (nx_ (nx_ N)) (a + 1) 5 2 + 1) (by (clear hgh hV hW h hk hS hK hQ hE hT ha fl b76 h12 hE1 S1 hT1 x70 toQ k1 h13 hE2 S2 hT2 k1' r2 nmt e8 e16 e12 e5 glu a52 eS toQ2 z hb c6 glt f7 Z PZ0 k58 k12 q76 m12 g12 b6; lia)) (by (clear hgh hV hW h hk hS hK hQ hE hT ha fl b76 h12 hE1 S1 hT1 x70 toQ k1 h13 hE2 S2 hT2 k1' r2 nmt e8 e16 e12 e5 glu a52 eS toQ2 z hb c6 glt f7 Z PZ0 k58 k12 q76 m12 g12 b6; lia))]
      have HD := SY_HDR hgh (T := np) Z (by rw [k52]; (clear hgh hV hW h hk hS hK hQ hE hT ha fl b76 h12 hE1 S1 hT1 x70 toQ k1 h13 hE2 S2 hT2 k1' r2 nmt e8 e16 e12 e5 glu a52 eS toQ2 z hb c6 glt f7 Z PZ0 k58 k12 q76 m12 g12 b6; lia)) (by rw [k58]; omega) (by rw [q76]; (clear hgh hV hW h hk hS hK hQ hE hT ha hnp fl h12 hE1 S1 hT1 x70 toQ k1 h13 hE2 S2 hT2 k1' r2 nmt e8 e16 e12 e33 e5 glu a52 eS toQ2 z hb e52 c6 n6 glt f7 Z PZ0 g52 k52 k12 m12 m33 g12 b6; lia)) (by (clear hgh hV hW h hk hS hK hQ hE hT hnp fl b76 hE1 S1 hT1 x70 toQ k1 hE2 S2 hT2 k1' r2 nmt e8 e16 e12 e33 e5 glu a52 eS toQ2 z hb e52 c6 n6 glt f7 Z PZ0 g52 k52 k12 q76 m12 m33 g12 b6; lia)) (fun _ => ⟨k12.2.1, k12.2.2.1⟩)
      rw [show a + 1 + 1 = a + 2 by omega] at Z HD
      refine z (Mz := zX_ (gd1_ (nX_ (nX_ M)) (nx_ (nx_ N)) (a + 1)) (a + 1)) m12 m33 n6 (hK _ (zX_ (gd1_ (nX_ (nX_ M)) (nx_ (nx_ N)) (a + 1)) (a + 1)) (zQ_ (gq_ (nx_ (nx_ N)) (a + 1)) np (a + 1)) Z PZ0 (GNO_c (M2 := M) (N2 := N) (by rw [hb]; exact GNO_0 S2.1.2.1.1.1 S2.1.2.1.2.2.1 S2.1.2.1.2.1.1) (fun r hr => (r2 r (fun e => by rw [e] at hr; revert hr; decide)).symm) (by rw [nx_ne (by decide), nx_ne (by decide)]) (by rw [nx_6 (by decide), nx_6 (by decide)]) (by rw [nx_6 (by decide), nx_6 (by decide)])) k58 (by rw [k52]; (clear hgh hV hW h hk hS hK hQ hE hT ha hnp fl b76 h12 hE1 S1 hT1 x70 toQ k1 h13 hE2 S2 hT2 k1' r2 nmt e8 e16 e12 e33 e5 glu a52 eS toQ2 z hb e52 c6 n6 glt f7 Z PZ0 g52 k58 k52 k12 q76 m12 m33 g12 b6 HD; lia)) HD (fun tm ht => eS tm (by have := ht.1 hb; rw [k58] at this; exact this)) (fun G Qtq hq => toQ2 (fun _ => c6) fun V' hV' hW' => b_252_38 (Tr_mono _) hV' hW' _ _ _ (q_235n (ER_goq hE2) (e16.trans hb) ?_ (by (clear hgh hV hW h hk hS hK hQ hE hT hnp fl b76 hE1 S1 hT1 x70 toQ k1 hE2 S2 hT2 k1' r2 nmt e8 e16 e12 e33 e5 glu a52 eS toQ2 z hb e52 c6 n6 glt f7 Z PZ0 g52 k52 k12 q76 m12 m33 g12 b6 HD hq hV' hW'; omega)) ?_)))
      · have := glu.1
        have s5 := S2.1.2.1.1.1.1
        have r5 := S2.1.2.1.2.2.1.1
        rw [e5] at this s5 r5
        (clear hgh hV hW h hk hS hK hQ hE hT ha fl b76 h12 hE1 S1 hT1 x70 toQ k1 h13 hE2 S2 hT2 k1' r2 nmt e8 e16 e12 e5 glu a52 eS toQ2 z hb c6 glt f7 Z PZ0 k58 k12 q76 m12 g12 b6 HD hq hV' hW'; lia)
      · intro _
        rw [gq_6 (by decide), e16, if_pos hb, w32_id (x := gq_ (nx_ (nx_ N)) (a + 1) 6 19 + 1) (by
          have q19 := S2.1.2.1.2.1.1.1.2.2
          rw [e5] at q19
          rw [gq_6 (by decide), q19]; (clear hgh hV hW h hk hS hK hQ hE hT ha fl b76 h12 hE1 S1 hT1 x70 toQ k1 h13 hE2 S2 hT2 k1' r2 nmt e8 e16 e12 e5 glu a52 eS toQ2 z hb c6 glt f7 Z PZ0 k58 k12 q76 m12 g12 b6 HD hq hV' hW' q19; lia)) (by
          have q19 := S2.1.2.1.2.1.1.1.2.2
          rw [e5] at q19
          rw [gq_6 (by decide), q19]; (clear hgh hV hW h hk hS hK hQ hE hT ha fl b76 h12 hE1 S1 hT1 x70 toQ k1 h13 hE2 S2 hT2 k1' r2 nmt e8 e16 e12 e5 glu a52 eS toQ2 z hb c6 glt f7 Z PZ0 k58 k12 q76 m12 g12 b6 HD hq hV' hW' q19; lia))]
        have hq' := hq V' hV' hW'
        rw [← zQ_61] at hq'
        unfold zQ_ at hq'
        have u1 : up_ (gq_ (nx_ (nx_ N)) (a + 1)) 6 61 np 151 = gq_ (nx_ (nx_ N)) (a + 1) 151 := up_ne (by decide)
        have u2 : up_ (gq_ (nx_ (nx_ N)) (a + 1)) 6 61 np 150 = gq_ (nx_ (nx_ N)) (a + 1) 150 := up_ne (by decide)
        have u3 : up_ (gq_ (nx_ (nx_ N)) (a + 1)) 6 61 np 6 19 = gq_ (nx_ (nx_ N)) (a + 1) 6 19 := up_of2 (by decide)
        rw [u1, u2, u3] at hq'
        exact ⟨by (clear hgh hV hW h hk hS hK hQ hE hT hnp fl b76 hE1 S1 hT1 x70 toQ k1 hE2 S2 hT2 k1' r2 nmt e8 e16 e12 e33 e5 glu a52 eS toQ2 z hb e52 c6 n6 glt f7 Z PZ0 g52 k52 k12 q76 m12 m33 g12 b6 HD hq hV' hW' hq' u1 u2 u3; lia), by (clear hgh hV hW h hk hS hK hQ hE hT ha fl b76 h12 hE1 S1 hT1 x70 toQ k1 h13 hE2 S2 hT2 k1' r2 nmt e8 e16 e12 e5 glu a52 eS toQ2 z hb c6 glt f7 Z PZ0 k58 k12 q76 m12 g12 b6 HD hq hV' hW' hq' u1 u2 u3; lia), by omega, by (clear hgh hV hW h hk hS hK hQ hE hT ha fl b76 h12 hE1 S1 hT1 x70 toQ k1 h13 hE2 S2 hT2 k1' r2 nmt e8 e16 e12 e5 glu a52 eS toQ2 z hb c6 glt f7 Z PZ0 k58 k12 q76 m12 g12 b6 HD hq hV' hW' hq' u1 u2 u3; lia), by (clear hgh hV hW h hk hS hK hQ hE hT ha fl b76 h12 hE1 S1 hT1 x70 toQ k1 h13 hE2 S2 hT2 k1' r2 nmt e8 e16 e12 e5 glu a52 eS toQ2 z hb c6 glt f7 Z PZ0 k58 k12 q76 m12 g12 b6 HD hq hV' hW' hq' u1 u2 u3; lia), by (clear hgh hV hW h hk hS hK hQ hE hT ha fl b76 h12 hE1 S1 hT1 x70 toQ k1 h13 hE2 S2 hT2 k1' r2 nmt e8 e16 e12 e5 glu a52 eS toQ2 z hb c6 glt f7 Z PZ0 k58 k12 q76 m12 g12 b6 HD hq hV' hW' hq' u1 u2 u3; lia), by (clear hgh hV hW h hk hS hK hQ hE hT ha fl b76 h12 hE1 S1 hT1 x70 toQ k1 h13 hE2 S2 hT2 k1' r2 nmt e8 e16 e12 e5 glu a52 eS toQ2 z hb c6 glt f7 Z PZ0 k58 k12 q76 m12 g12 b6 HD hq hV' hW' hq' u1 u2 u3; lia), by (clear hgh hV hW h hk hS hK hQ hE hT ha fl b76 h12 hE1 S1 hT1 x70 toQ k1 h13 hE2 S2 hT2 k1' r2 nmt e8 e16 e12 e5 glu a52 eS toQ2 z hb c6 glt f7 Z PZ0 k58 k12 q76 m12 g12 b6 HD hq hV' hW' hq' u1 u2 u3; lia), by (clear hgh hV hW h hk hS hK hQ hE hT ha fl b76 h12 hE1 S1 hT1 x70 toQ k1 h13 hE2 S2 hT2 k1' r2 nmt e8 e16 e12 e5 glu a52 eS toQ2 z hb c6 glt f7 Z PZ0 k58 k12 q76 m12 g12 b6 HD hq hV' hW' hq' u1 u2 u3; lia), by (clear hgh hV hW h hk hS hK hQ hE hT ha fl b76 h12 hE1 S1 hT1 x70 toQ k1 h13 hE2 S2 hT2 k1' r2 nmt e8 e16 e12 e5 glu a52 eS toQ2 z hb c6 glt f7 Z PZ0 k58 k12 q76 m12 g12 b6 HD hq hV' hW' hq' u1 u2 u3; lia), hq'⟩
    refine x_110 (by (clear hgh hV hW h hk hS hK hQ hE hT hnp fl b76 hE1 S1 hT1 x70 toQ k1 hE2 S2 hT2 k1' r2 nmt e8 e16 e12 e33 e5 glu a52 eS toQ2 z hb e52 c6 n6 glt f7 Z PZ0 g52 k52 k12 q76 m12 m33 fin; lia)) (by (clear hgh hV hW h hk hS hK hQ hE hT hnp fl b76 hE1 S1 hT1 x70 toQ k1 hE2 S2 hT2 k1' r2 nmt e8 e16 e12 e33 e5 glu a52 eS toQ2 z hb e52 c6 n6 glt f7 Z PZ0 g52 k52 k12 q76 m12 m33 fin; lia)) (fun _ => ?_) (fun e => absurd rfl e)
    refine x_111s hT2 e12 S2.1.2.1.1.1 S2.1.2.1.2.2.1 S2.1.2.1.2.1.1 nmt (fun c => ?_) (fun c => ?_)
    · rw [if_pos rfl]
      unfold gd1_ at fin
      rw [if_pos c] at fin; exact fin
    · rw [if_neg (by decide)]
      unfold gd1_ at fin
      rw [if_neg c] at fin
      exact x_116 (by omega) (by omega) (by rw [f7]; exact hE.2.2.2.2.2.2.2.2.2.2.2.1) (by rw [f7]; (clear hgh hV hW h hk hS hK hQ hE hT hnp b76 hE1 S1 hT1 x70 toQ k1 hE2 S2 hT2 k1' r2 nmt e8 e16 e12 e33 e5 glu a52 eS toQ2 z hb e52 c6 n6 glt Z PZ0 g52 k52 k12 q76 m12 m33 fin c; lia)) fin
  · rw [if_neg (by omega)]
    have tmb : TMT M np (a + 1) = true := by
      have := hS hb
      unfold pnS at this
      rw [gS_e h12, Option.bind_some, tS_e k1' h13, Option.bind_some] at this
      by_cases c : TMT M np (a + 1) = true
      · exact c
      · rw [if_neg c] at this; exact absurd rfl this
    have tm2 : np < M 5 2 ∧ M 58 np = a + 1 := by unfold TMT at tmb; exact of_decide_eq_true tmb
    have n6 : np < 6 := by rw [e5] at a52; (clear hgh hV hW h hk hS hK hQ hE hT ha hnp fl b76 h12 hE1 S1 hT1 x70 toQ k1 h13 hE2 S2 hT2 k1' r2 nmt e8 e16 e12 e5 glu eS toQ2 z hb tmb; omega)
    have r5 := S2.1.2.1.2.2.1.1
    have s5 := S2.1.2.1.1.1.1
    have g1 := glu.1
    rw [e5] at r5 s5 g1 a52
    obtain ⟨Nz, ⟨hw, hwn⟩, hq⟩ := q_235j (N := nx_ (nx_ N)) (t := a + 1) (e16.trans hb) (by (clear hgh hV hW h hk hS hK hQ hE hT ha fl b76 h12 hE1 S1 hT1 x70 toQ k1 h13 hE2 S2 hT2 k1' r2 nmt e8 e16 e12 e5 glu eS toQ2 z hb tmb; omega)) (by (clear hgh hV hW h hk hS hK hQ hE hT hnp fl b76 hE1 S1 hT1 x70 toQ k1 hE2 S2 hT2 k1' r2 nmt e8 e16 e12 e33 e5 glu a52 eS toQ2 z hb tmb n6 r5 s5 g1; lia))
    have gm : GLM (nX_ (nX_ M)) (a + 1) := .inr (.inr ⟨np, by rw [e5]; exact ⟨hnp, tm2.1⟩, by rw [r2 58 (by decide)]; exact tm2.2⟩)
    have Z := SY_gw S2.1 hb nmt gm hw
    have PZ1 : PZ b F F M N (nX_ (nX_ M)) Nz np := by rw [hb]; exact PZ_1 hw
    have q76 : Nz 6 76 = N 6 76 := PZ1.2.1.2.2 76 (by decide)
    have k58 : nX_ (nX_ M) 58 np = a + 1 := by rw [r2 58 (by decide)]; exact tm2.2
    have k52 : np < nX_ (nX_ M) 5 2 := by rw [e5]; exact tm2.1
    have HD := SY_HDR hgh (T := np) Z ⟨hnp, k52⟩ (by rw [k58]; (clear hgh hV hW h hk hS hK hQ hE hT ha hnp fl b76 h12 hE1 S1 hT1 x70 toQ k1 h13 hE2 S2 hT2 k1' r2 nmt e8 e16 e12 e33 e5 glu a52 eS toQ2 z hb tmb tm2 n6 r5 s5 g1 hq hw hwn gm Z PZ1 q76 k58 k52; lia)) (by rw [q76]; (clear hgh hV hW h hk hS hK hQ hE hT ha hnp fl h12 hE1 S1 hT1 x70 toQ k1 h13 hE2 S2 hT2 k1' r2 nmt e8 e16 e12 e33 e5 glu a52 eS toQ2 z hb tmb n6 r5 s5 g1 hq hw hwn gm Z PZ1 k52; lia)) (by (clear hgh hV hW h hk hS hK hQ hE hT hnp fl b76 hE1 S1 hT1 x70 toQ k1 hE2 S2 hT2 k1' r2 nmt e8 e16 e12 e33 e5 glu a52 eS toQ2 z hb tmb n6 r5 s5 g1 hq hw hwn gm Z PZ1 q76 k52; lia)) (fun hb0 => by (clear hgh hV hW h hk hS hK hQ hE hT ha hnp fl b76 h12 hE1 S1 hT1 x70 toQ k1 h13 hE2 S2 hT2 k1' r2 nmt e8 e12 e33 e5 glu a52 eS toQ2 z tmb tm2 n6 r5 s5 g1 hq hw hwn gm Z PZ1 q76 k58 k52; lia))
    rw [show a + 1 + 1 = a + 2 by (clear hgh hV hW h hk hS hK hQ hE hT ha hnp fl b76 h12 hE1 S1 hT1 x70 toQ k1 h13 hE2 S2 hT2 k1' r2 nmt e8 e16 e12 e33 e5 glu a52 eS toQ2 z hb tmb tm2 n6 r5 s5 g1 hq hw hwn gm Z PZ1 q76 k58 k52 HD; lia)] at Z HD
    refine z e12 e33 n6 (hK _ _ _ Z PZ1 (GNO_c (M2 := M) (N2 := N) (by rw [hb]; exact GNO_1 S2.1.2.1.1.1 S2.1.2.1.2.2.1 S2.1.2.1.2.1.1 hT2 S2.1.2.1.2.2.2.2 nmt (e16.trans hb) hE2.2.2.2.2.2.2.2.2.2.2.1.2.1 ⟨hw, hwn⟩) (fun r hr => (r2 r (fun e => by rw [e] at hr; revert hr; decide)).symm) (by rw [nx_ne (by decide), nx_ne (by decide)]) (by rw [nx_6 (by decide), nx_6 (by decide)]) (by rw [nx_6 (by decide), nx_6 (by decide)])) k58 k52 HD (fun tm ht => eS tm (by rw [ht.2 hb]; exact tmb)) (fun G Qtq hg => toQ2 (fun hb0 => by (clear hgh hV hW h hk hS hK hQ hE hT ha hnp fl b76 h12 hE1 S1 hT1 x70 toQ k1 h13 hE2 S2 hT2 k1' r2 nmt e8 e12 e33 e5 glu a52 eS toQ2 z tmb tm2 n6 r5 s5 g1 hq hw hwn gm Z PZ1 q76 k58 k52 HD hg; lia)) fun V' hV' hW' => b_252_38 (Tr_mono _) hV' hW' _ _ _ (hq _ _ _ ?_)))
    intro _
    rw [GWI_6 hw (by decide) (by decide), e16, if_neg (by omega)]
    exact hg V' hV' hW'
end PNm
end T257_pn
section T258_pr
/-! a process up to its end (X 126 | Q 252) -/
def DMs (M : mm_) (T : Int) : Int → Bool := DMT (up_ M 1 18 T)
def LMs (M : mm_) (T : Int) : Int → Int → Bool := LMT (up_ M 1 18 T)
def SMs (N : mm_) (T : Int) : Int → Bool := SMT (up_ N 6 61 T)
def POK (b : Int) (tm dm : Int → Bool) (pm : Int) (lm : Int → Int → Bool) (sm : Int → Bool) (lb T : Int) (M N M' N' : mm_) : Prop := (b = 0 → lb = M' 128 T ∧ tm (M' 58 T) = true ∧ (∀ t, DCL M' T t → dm t = true) ∧ pm = M' 122 T ∧ (∀ j, 0 ≤ j → j < M' 128 T → lm j (M' 62 (10 * T + j)) = true) ∧ (∀ t, stt (up_ N' 6 61 T) (N' 151 t) ≠ -1 → sm t = true))
  ∧ (b = 1 → lb = M 128 T ∧ tm = TMT M T ∧ dm = DMs M T ∧ pm = M 122 T ∧ lm = LMs M T ∧ sm = SMs N T)
def prcS (κ ν : Int → Int) (tm dm : Int → Bool) (pm : Int) (lm : Int → Int → Bool) (sm : Int → Bool) (lb a : Int) : Option Int := (pnS κ tm a).bind fun a2 => (ctS κ ν a2).bind fun a5 => (pdS κ ν dm pm lm sm (a5, 0)).bind fun r => if r.2 = lb then some r.1 else none
def PRO [Inhabited gh_] (b F F' : Int) (M N M' N' : mm_) (np a a' : Int) : Prop := ∃ (F1 : Int) (Mz Nz Ma Na : mm_), SY0 b F1 Mz Nz (a + 2) ∧ PZ b F F1 M N Mz Nz np ∧ Mz 58 np = a + 1 ∧ np < Mz 5 2 ∧ CTF b np (sT_ Mz np) (up_ Nz 6 61 np) Ma Na ∧ HDR b F1 Ma Na (a + 5) ∧ PBD b F1 F' Ma Na M' N' a'
/-- told twice: what a process says -/
def PCG (b F F' : Int) (M N M' N' : mm_) (np a : Int) : Prop := (b = 0 → (F' = F ∨ ((∃ u, GLM M u ∧ N 151 u = N 151 (a + 1)) ∧ F' = 8 * M 71 (a + 1) + 3) ∨ DUN M' N' np F' ∨ DUL M' N' np (M' 128 np) F') ∧ ∃ ah, (∀ tm dm pm lm sm lb, POK b tm dm pm lm sm lb np M N M' N' → hdP (M 70) (M 73) dm pm (a + 5) = some ah) ∧ ∀ u, DCL M' np u → a + 5 ≤ u ∧ u < ah)
  ∧ (b = 1 → kk_ (N' 6 13) (N' 6 14) ≤ kk_ (N 6 13) (N 6 14) ∧ (TDW M N (a + 1) → kk_ (N' 6 13) (N' 6 14) ≤ 8 * M 71 (a + 1) + 3) ∧ (∀ ah, hdP (M 70) (M 73) (DMs M np) (M 122 np) (a + 5) = some ah → (∀ u, DCL M np u → a + 5 ≤ u ∧ u < ah) → ∀ f, DUN M N np f → kk_ (N' 6 13) (N' 6 14) ≤ f) ∧ ∀ f, DUL M N np (M 128 np) f → kk_ (N' 6 13) (N' 6 14) ≤ f)
section PRw
variable {dq : Nat} {b F F1 F' : Int} {x2 x3 x4 x5 c T y1 y2 ns nr np t : Int} {Kv G : mm_ → Prop} {Qt Qtq : qt_} {V V' : vv_} {M N Mx' M' N' M1 N1 Ma Na Mz Nz : mm_} {a a' : Int}
theorem PZ_X [Inhabited gh_] (h : PZ b F F1 M N Mz Nz np) : XPb M Mz := fun r hr => h.1.1 r (fun e => hr (by revert e; unfold pzX xpL; simp only [List.mem_cons, List.not_mem_nil, or_false]; (clear h hr; lia)))
theorem PZ_Q [Inhabited gh_] (h : PZ b F F1 M N Mz Nz np) : QPb N Nz := ⟨fun r hr => h.2.1.1 r (fun e => hr (by revert e; unfold pzQ QPRr; simp only [List.mem_cons, List.not_mem_nil, or_false]; omega)), fun i hi => h.2.1.2.2 i (fun e => hi (by revert e; unfold qpI; simp only [List.mem_cons, List.not_mem_nil, or_false]; (clear h hi; lia)))⟩
theorem sT_X [Inhabited gh_] : XPb M (sT_ M T) := fun r hr => sT_r (fun e => hr (by rw [e]; decide))
theorem u61_Q [Inhabited gh_] : QPb N (up_ N 6 61 T) := ⟨fun r hr => up_ne (fun e => hr (by unfold QPRr; (clear hr; lia))), fun i hi => up_of2 (nm_i hi (by decide))⟩
theorem CTF_X [Inhabited gh_] (h : CTF b T M N M1 N1) : XPb M M1 := fun r hr => h.1 r (fun e => hr (by rw [e]; decide)) (fun e => hr (by rw [e]; decide)) (fun e => hr (by rw [e]; decide))
theorem CTF_Q [Inhabited gh_] (h : CTF b T M N M1 N1) : QPb N N1 := ⟨fun r hr => h.2.2.2.1 r (fun e => hr (by unfold QPRr; omega)) (fun e => hr (by unfold QPRr; omega)) (fun e => hr (by unfold QPRr; omega)), fun i hi => h.2.2.2.2.2.1 i (nm_i hi (by decide)) (nm_i hi (by decide)) (nm_i hi (by decide))⟩
theorem PBD_18 [Inhabited gh_] (h : PBD b F F' M N M' N' a') : M' 1 18 = M 1 18 := by
  obtain ⟨Mh, Nh, ah, c, Fh, Hh, ph, cb, cc, n170, S', P', f', at'⟩ := h
  rw [sB_18 f', ph.1.2.1 18 (by decide), up_ne (by decide)]
/-- X's and Q's memory at the head, against the start -/
theorem hd_r [Inhabited gh_] (hz : PZ b F F1 M N Mz Nz np) (hc : CTF b np (sT_ Mz np) (up_ Nz 6 61 np) Ma Na) {r : Nat} (h : r ∉ pzX) (h0 : r ≠ 120) (h1 : r ≠ 121) : Ma r = M r := by
  have e1 : r ≠ 1 := fun e => h (by rw [e]; decide)
  rw [hc.1 r e1 h0 h1, sT_r e1, hz.1.1 r h]
theorem hd_b [Inhabited gh_] (hz : PZ b F F1 M N Mz Nz np) (hc : CTF b np (sT_ Mz np) (up_ Nz 6 61 np) Ma Na) (hb : b = 1) {r : Nat} (e1 : r ≠ 1) (h0 : r ≠ 120) (h1 : r ≠ 121) : Ma r = M r := by
  rw [hc.1 r e1 h0 h1, sT_r e1, (hz.2.2.1 hb).1 r e1]
theorem hd_q [Inhabited gh_] (hz : PZ b F F1 M N Mz Nz np) (hc : CTF b np (sT_ Mz np) (up_ Nz 6 61 np) Ma Na) (hb : b = 1) {r : Nat} (e1 : r ≠ 6) (h0 : r ≠ 168) (h1 : r ≠ 169) : Na r = N r := by
  rw [hc.2.2.2.1 r e1 h0 h1, up_ne e1, (hz.2.2.1 hb).2.1 r e1]
theorem hd_18 [Inhabited gh_] (hc : CTF b np (sT_ Mz np) (up_ Nz 6 61 np) Ma Na) : Ma 1 18 = np ∧ Ma 1 19 = 0 ∧ Ma 1 29 = 0 ∧ Ma 1 33 = np + 1 ∧ Na 6 61 = np := by
  obtain ⟨k18, k19, k29, k33⟩ := sT_k (M := Mz) (T := np)
  have e := hc.2.2.1
  exact ⟨(e 18 (by decide) (by decide) (by decide) (by decide)).trans k18, (e 19 (by decide) (by decide) (by decide) (by decide)).trans k19, (e 29 (by decide) (by decide) (by decide) (by decide)).trans k29, (e 33 (by decide) (by decide) (by decide) (by decide)).trans k33, (hc.2.2.2.2.2.1 61 (by decide) (by decide) (by decide)).trans up_at⟩
theorem hd_T [Inhabited gh_] (hz : PZ b F F1 M N Mz Nz np) (hc : CTF b np (sT_ Mz np) (up_ Nz 6 61 np) Ma Na) (hb : b = 1) : DMT Ma = DMs M np ∧ LMT Ma = LMs M np ∧ SMT Na = SMs N np ∧ Ma 122 np = M 122 np := by
  have k := hd_18 hc
  have x : ∀ r : Nat, r ≠ 1 → r ≠ 120 → r ≠ 121 → Ma r = up_ M 1 18 np r := fun r e1 h0 h1 => by rw [hd_b hz hc hb e1 h0 h1, up_ne e1]
  have q : ∀ r : Nat, r ≠ 6 → r ≠ 168 → r ≠ 169 → Na r = up_ N 6 61 np r := fun r e1 h0 h1 => by rw [hd_q hz hc hb e1 h0 h1, up_ne e1]
  have e18 : Ma 1 18 = up_ M 1 18 np 1 18 := by rw [k.1, up_at]
  have e61 : Na 6 61 = up_ N 6 61 np 6 61 := by rw [k.2.2.2.2, up_at]
  refine ⟨?_, ?_, ?_, by rw [hd_b hz hc hb (by decide) (by decide) (by decide)]⟩
  · unfold DMs DMT
    rw [e18, x 60 (by decide) (by decide) (by decide), x 124 (by decide) (by decide) (by decide), x 61 (by decide) (by decide) (by decide), x 126 (by decide) (by decide) (by decide)]
  · unfold LMs LMT
    rw [e18, x 128 (by decide) (by decide) (by decide), x 62 (by decide) (by decide) (by decide)]
  · unfold SMs SMT stt
    rw [e61, q 151 (by decide) (by decide) (by decide), q 174 (by decide) (by decide) (by decide), q 179 (by decide) (by decide) (by decide)]
theorem PCG_of [Inhabited gh_] (h01 : b = 0 ∨ b = 1) (pz : PZ b F F1 M N Mz Nz np) (ct : CTF b np (sT_ Mz np) (up_ Nz 6 61 np) Ma Na) (gn : GNO b F F1 M N Nz (a + 1)) (kc : b = 1 → kk_ (Na 6 13) (Na 6 14) ≤ kk_ (up_ Nz 6 61 np 6 13) (up_ Nz 6 61 np 6 14)) (Ha : HDR b F1 Ma Na (a + 5)) (m18 : M' 1 18 = np) (hl : b = 1 → M' 1 19 = M 128 np) (G : PBG b F1 F' Ma Na M' N') : PCG b F F' M N M' N' np a := by
  obtain ⟨e18, e19, e29, e33, e61⟩ := hd_18 ct
  have a70 : Ma 70 = M 70 := hd_r pz ct (by decide) (by decide) (by decide)
  have a73 : Ma 73 = M 73 := hd_r pz ct (by decide) (by decide) (by decide)
  have a3 : Ma 1 3 = a + 5 := (TS_E Ha.1.1).2.1
  unfold PBG at G
  rw [e18, a70, a73, a3] at G
  refine ⟨fun hb => ?_, fun hb => ?_⟩
  · obtain ⟨g1, ah, g2, g3⟩ := G.1 hb
    refine ⟨?_, ah, fun tm dm pm lm sm lb ok => g2 dm pm ⟨fun hb t ht => (ok.1 hb).2.2.1 t (by rw [m18] at ht; exact ht), fun hb1 => by omega⟩ (ok.1 hb).2.2.2.1, g3⟩
    rcases g1 with z | z | z
    · rcases gn.1 hb with y | y
      · exact .inl (z.trans y)
      · exact .inr (.inl ⟨y.1, z.trans y.2⟩)
    · exact .inr (.inr (.inl z))
    · exact .inr (.inr (.inr z))
  · obtain ⟨g1, g2, g3⟩ := G.2 hb
    have t := hd_T pz ct hb
    have n1 := gn.2 hb
    have k1 := kc hb
    rw [up_of2 (by decide), up_of2 (by decide)] at k1
    have dc : ∀ u, DCL Ma np u ↔ DCL M np u := fun u => DCL_c (hd_b pz ct hb (by decide) (by decide) (by decide)) (hd_b pz ct hb (by decide) (by decide) (by decide)) (hd_b pz ct hb (by decide) (by decide) (by decide)) (hd_b pz ct hb (by decide) (by decide) (by decide))
    have x71 : Ma 71 = M 71 := hd_b pz ct hb (by decide) (by decide) (by decide)
    have x62 : Ma 62 = M 62 := hd_b pz ct hb (by decide) (by decide) (by decide)
    have q151 : Na 151 = N 151 := hd_q pz ct hb (by decide) (by decide) (by decide)
    have q180 : Na 180 = N 180 := hd_q pz ct hb (by decide) (by decide) (by decide)
    refine ⟨by have := n1.1; (clear h01 pz ct gn kc Ha m18 hl G e18 e19 e29 e33 e61 a70 a73 a3 hb g2 g3 t dc x71 x62 q151 q180 this; omega), fun h => by have := n1.2 h; (clear h01 pz ct gn kc Ha m18 hl G e18 e19 e29 e33 e61 a70 a73 a3 hb g2 g3 t n1 dc x71 x62 q151 q180 h; lia), fun ah h1 h2 f hf => g2 ah (by rw [t.1, t.2.2.2]; exact h1) (fun u hu => h2 u ((dc u).1 hu)) f (DUN_c hf (fun u hu => (dc u).2 hu) x71 q151), fun f hf => g3 f ?_⟩
    unfold DUL at hf ⊢
    rw [x71, x62, q180, hl hb]; exact hf
theorem y_prc [Inhabited gh_] (hgh : GHP) (hV : Cl_ wd0 (Tr_ wd0 pg0 130) V (rv_ Kv) Qt m_126) (hW : Wk_ V) (h : SYS b F M N a ns nr np) (hk : M 70 a = 2) (hS : b = 1 → prcS (M 70) (M 73) (TMT M np) (DMs M np) (M 122 np) (LMs M np) (SMs N np) (M 128 np) a ≠ none)
    (hK : ∀ F' M' N' a', PRO b F F' M N M' N' np a a' → PCG b F F' M N M' N' np a → a + 10 ≤ a' → (b = 1 → M' 1 19 = M 128 np) → (∀ tm dm pm lm sm lb, POK b tm dm pm lm sm lb np M N M' N' → prcS (M 70) (M 73) tm dm pm lm sm lb a = some a') → (∀ (G : mm_ → Prop) (Qtq : qt_), G N' → qPC dq np N G Qtq) → R461 Kv Qt M')
    (hQ : b = 0 → ∀ Mx', XPb M Mx' → (∀ (G : mm_ → Prop) (Qtq : qt_), (∀ M', SQp Mx' N M' → G M') → qPC dq np N G Qtq) → Qt 8 Mx') :
    V 0 [rr 1, none, none, none, none, none, none] [] M := by
  have h01 := bl01 h.1.1.2.1
  refine y_pnm (dq := dq) hgh hV hW h hk (fun hb => bind_n (hS hb)) (fun F1 Mz Nz Z pz gn k58 k52 HD sy hq => ?_) hQ
  have syb : b = 1 → pnS (M 70) (TMT M np) a = some (a + 2) := fun hb => sy _ ⟨fun hb0 => by omega, fun _ => rfl⟩
  have s70 : sT_ Mz np 70 = M 70 := by rw [sT_r (by decide), pz.1.1 70 (by decide)]
  have s73 : sT_ Mz np 73 = M 73 := by rw [sT_r (by decide), pz.1.1 73 (by decide)]
  have s71 : sT_ Mz np 71 = M 71 := by rw [sT_r (by decide), pz.1.1 71 (by decide)]
  have s7 : sT_ Mz np 1 7 = Mz 1 7 := sT_1 (by decide) (by decide) (by decide) (by decide) (by decide)
  have z7 := Z.2.2.2.2.1.2.2.1
  refine y_cnt (dq := dq) (x2 := a + 1) hV hW HD sT_k.1 (by rw [s7]; exact z7) (fun hb => ?_) (fun Ma Na Ha ct kc sy2 hq2 => ?_) (fun hb Mx' hx' hq' => ?_)
  · have := hS hb
    unfold prcS at this
    rw [syb hb, Option.bind_some] at this
    rw [s70, s73]; exact bind_n this
  · rw [s70, s73] at sy2
    rw [show a + 2 + 3 = a + 5 by omega] at Ha sy2
    obtain ⟨e18, e19, e29, e33, e61⟩ := hd_18 ct
    have a70 : Ma 70 = M 70 := hd_r pz ct (by decide) (by decide) (by decide)
    have a73 : Ma 73 = M 73 := hd_r pz ct (by decide) (by decide) (by decide)
    have zx : ∀ r : Nat, r ≠ 1 → r ≠ 120 → r ≠ 121 → Ma r = Mz r := fun r e1 h0 h1 => by rw [ct.1 r e1 h0 h1, sT_r e1]
    have zq : ∀ r : Nat, r ≠ 6 → r ≠ 168 → r ≠ 169 → Na r = Nz r := fun r e1 h0 h1 => by rw [ct.2.2.2.1 r e1 h0 h1, up_ne e1]
    have lc0 : lc_ b Ma = 0 := by
      unfold lc_
      rcases h01 with hb | hb
      · rw [if_pos hb, e18, zx 128 (by decide) (by decide) (by decide)]; exact (pz.2.2.2.2 hb).2.1.2.2.2
      · rw [if_neg (by omega)]; exact e19
    refine y_pbd (dq := dq) (x2 := a + 1) (x3 := sT_ Mz np 73 (a + 2)) (x4 := sT_ Mz np 71 (a + 2 + 1 + 1)) (x5 := sT_ Mz np 73 (a + 2 + 1 + 1)) hgh (fun _ => e19) hV hW Ha (fun hb => ?_) (fun hb => ?_) (fun F' M' N' a' P' G' ha' sy3 hq3 => ?_) (fun hb Mx' hx' hq' => ?_)
    · have k := (pz.2.2.2.2 hb).2
      rw [e18, zx 124 (by decide) (by decide) (by decide), zx 126 (by decide) (by decide) (by decide), zq 170 (by decide) (by decide) (by decide)]
      exact ⟨k.1.2.1, k.1.2.2.1, k.2.1⟩
    · have t := hd_T pz ct hb
      have := hS hb
      unfold prcS at this
      rw [syb hb, Option.bind_some, sy2, Option.bind_some] at this
      rw [a70, a73, t.1, t.2.1, t.2.2.1, e18, t.2.2.2, lc0]
      exact bind_n this
    · have m18 := PBD_18 P'
      rw [e18] at m18
      rw [lc0, a70, a73, e18] at sy3
      have hl : b = 1 → M' 1 19 = M 128 np := fun hb => by
        have t := hd_T pz ct hb
        have h9 := hS hb
        unfold prcS at h9
        have e3 := sy3 (DMs M np) (M 122 np) (LMs M np) (SMs N np) ⟨fun hb0 => by omega, fun _ => t.1.symm⟩ (by
          obtain ⟨Mh, Nh, ah, c, Fh, Hh, ph, cb, cc, n170, S', P'', f', at'⟩ := P'
          rw [sB_r f' (by decide) (by decide), ph.1.1 122 (by decide) (by decide), e18, up_at, cb hb, e18, t.2.2.2]) ⟨fun hb0 => by omega, fun _ => t.2.1.symm⟩ ⟨fun hb0 => by omega, fun _ => t.2.2.1.symm⟩
        rw [syb hb, Option.bind_some, sy2, Option.bind_some, e3, Option.bind_some] at h9
        by_cases cl : lc_ b M' = M 128 np
        · unfold lc_ at cl
          rw [if_neg (by omega)] at cl; exact cl
        · exact absurd (if_neg cl) h9
      refine hK F' M' N' a' ⟨F1, Mz, Nz, Ma, Na, Z, pz, k58, k52, ct, Ha, P'⟩ (PCG_of h01 pz ct gn kc Ha m18 hl G') (by omega) hl (fun tm dm pm lm sm lb ok => ?_) (fun G Qtq hg => hq G Qtq (hq2 G Qtq (by have := hq3 G Qtq hg; rw [e18] at this; exact this)))
      have l58 : M' 58 np = Mz 58 np := by
        obtain ⟨Mh, Nh, ah, c, Fh, Hh, ph, cb, cc, n170, S', P'', f', at'⟩ := P'
        rw [sB_r f' (by decide) (by decide), ph.1.1 58 (by decide) (by decide), up_ne (by decide), zx 58 (by decide) (by decide) (by decide)]
      have e1 := sy tm ⟨fun hb => by rw [← l58]; exact (ok.1 hb).2.1, fun hb => (ok.2 hb).2.1⟩
      have m61 : b = 0 → N' 6 61 = np := fun hb => by
        obtain ⟨Mh, Nh, ah, c, Fh, Hh, ph, cb, cc, n170, S', P'', f', at'⟩ := P'
        rw [S'.1.1.2.1.2.1]; exact m18
      have e3 := sy3 dm pm lm sm ⟨fun hb t ht => (ok.1 hb).2.2.1 t (by rw [m18] at ht; exact ht), fun hb => by rw [(hd_T pz ct hb).1]; exact (ok.2 hb).2.2.1⟩ (by
        rcases h01 with hb | hb
        · exact (ok.1 hb).2.2.2.1
        · rw [(ok.2 hb).2.2.2.1]
          obtain ⟨Mh, Nh, ah, c, Fh, Hh, ph, cb, cc, n170, S', P'', f', at'⟩ := P'
          rw [sB_r f' (by decide) (by decide), ph.1.1 122 (by decide) (by decide), e18, up_at, cb hb, e18, (hd_T pz ct hb).2.2.2]) ⟨fun hb j j0 j1 => by
          rw [e18]
          refine (ok.1 hb).2.2.2.2.1 j (by rw [lc0] at j0; exact j0) ?_
          unfold lc_ at j1
          rw [if_pos hb, m18] at j1; exact j1, fun hb => by rw [(hd_T pz ct hb).2.1]; exact (ok.2 hb).2.2.2.2.1⟩ ⟨fun hb t ht => (ok.1 hb).2.2.2.2.2 t (by
          have : up_ N' 6 61 np = N' := by rw [← m61 hb]; exact up_id
          rw [this]; exact ht), fun hb => by rw [(hd_T pz ct hb).2.2.1]; exact (ok.2 hb).2.2.2.2.2⟩
      unfold prcS
      have el : lc_ b M' = lb := by
        unfold lc_
        rcases h01 with hb | hb
        · rw [if_pos hb, m18]; exact (ok.1 hb).1.symm
        · have t := hd_T pz ct hb
          have h9 := hS hb
          unfold prcS at h9
          rw [(ok.2 hb).1]
          rw [syb hb, Option.bind_some, sy2, Option.bind_some] at h9
          rw [(ok.2 hb).2.2.1, (ok.2 hb).2.2.2.1, (ok.2 hb).2.2.2.2.1, (ok.2 hb).2.2.2.2.2] at e3
          rw [e3, Option.bind_some] at h9
          by_cases cl : lc_ b M' = M 128 np
          · unfold lc_ at cl
            exact cl
          · exact absurd (if_neg cl) h9
      rw [e1, Option.bind_some, sy2, Option.bind_some, e3, Option.bind_some, if_pos el]
    · exact hQ hb Mx' (XPb_tr (XPb_tr (XPb_tr (PZ_X pz) sT_X) (CTF_X ct)) hx') (fun G Qtq hg => hq G Qtq (hq2 G Qtq (by
        have := hq' G Qtq fun M9 p => hg _ (SQp_tr (QPb_tr (QPb_tr (PZ_Q pz) u61_Q) (CTF_Q ct)) p)
        rw [e18] at this; exact this)))
  · exact hQ hb Mx' (XPb_tr (XPb_tr (PZ_X pz) sT_X) hx') (fun G Qtq hg => hq G Qtq (hq' G Qtq fun M9 p => hg _ (SQp_tr (QPb_tr (PZ_Q pz) u61_Q) p)))
end PRw
end T258_pr
section T259_ps
/-! a process leaves the system's relation -/
section PSy
variable {b F F1 F' Fh : Int} {c T ns nr np t : Int} {M N M' N' M1 N1 Ma Na Mz Nz Mh Nh : mm_} {a a' : Int}
theorem TBL_F [Inhabited gh_] (h : TBL F M N T) (hF : F1 ≤ F) : TBL F1 M N T := ⟨h.1, h.2.1, h.2.2.1, fun u v hu hv he hl => by have := h.2.2.2 u v hu hv he hl; omega⟩
theorem ROW_z [Inhabited gh_] (h : PZ b F F1 M N Mz Nz np) (hT : T ≠ np) : ROW M N Mz Nz T := by
  have x := h.1.1
  have y : ∀ r : Nat, r ≠ 1 → r ≠ 5 → Mz r T = M r T := fun r h1 h5 => h.1.2.1 r T h1 h5 hT
  have q := h.2.1.1
  have w : ∀ r : Nat, r ∉ [6, 190, 191] → Nz r T = N r T := fun r hr => h.2.1.2.1 r T hr hT
  unfold ROW
  rw [y 58 (by decide) (by decide), y 120 (by decide) (by decide), y 121 (by decide) (by decide), y 123 (by decide) (by decide), y 124 (by decide) (by decide), y 125 (by decide) (by decide), y 126 (by decide) (by decide), y 128 (by decide) (by decide), w 167 (by decide), w 168 (by decide), w 169 (by decide), w 171 (by decide), w 172 (by decide), w 173 (by decide), w 174 (by decide), w 175 (by decide), x 60 (by decide), x 130 (by decide), x 131 (by decide), x 132 (by decide), x 61 (by decide), x 59 (by decide), x 62 (by decide), q 177 (by decide), q 181 (by decide), q 182 (by decide), q 183 (by decide), q 184 (by decide), q 178 (by decide), q 185 (by decide), q 179 (by decide), q 186 (by decide), q 180 (by decide), q 187 (by decide)]
  exact ROW_rf
theorem ROW_ct [Inhabited gh_] (h : CTF b np M N M1 N1) (hT : T ≠ np) : ROW M N M1 N1 T := by
  have x : ∀ r : Nat, r ≠ 1 → r ≠ 120 → r ≠ 121 → M1 r = M r := h.1
  have q : ∀ r : Nat, r ≠ 6 → r ≠ 168 → r ≠ 169 → N1 r = N r := h.2.2.2.1
  have y := h.2.1 T hT
  have w := h.2.2.2.2.1 T hT
  unfold ROW
  rw [x 58 (by decide) (by decide) (by decide), y.1, y.2, x 123 (by decide) (by decide) (by decide), x 124 (by decide) (by decide) (by decide), x 125 (by decide) (by decide) (by decide), x 126 (by decide) (by decide) (by decide), x 128 (by decide) (by decide) (by decide), q 167 (by decide) (by decide) (by decide), w.1, w.2, q 171 (by decide) (by decide) (by decide), q 172 (by decide) (by decide) (by decide), q 173 (by decide) (by decide) (by decide), q 174 (by decide) (by decide) (by decide), q 175 (by decide) (by decide) (by decide), x 60 (by decide) (by decide) (by decide), x 130 (by decide) (by decide) (by decide), x 131 (by decide) (by decide) (by decide), x 132 (by decide) (by decide) (by decide), x 61 (by decide) (by decide) (by decide), x 59 (by decide) (by decide) (by decide), x 62 (by decide) (by decide) (by decide), q 177 (by decide) (by decide) (by decide), q 181 (by decide) (by decide) (by decide), q 182 (by decide) (by decide) (by decide), q 183 (by decide) (by decide) (by decide), q 184 (by decide) (by decide) (by decide), q 178 (by decide) (by decide) (by decide), q 185 (by decide) (by decide) (by decide), q 179 (by decide) (by decide) (by decide), q 186 (by decide) (by decide) (by decide), q 180 (by decide) (by decide) (by decide), q 187 (by decide) (by decide) (by decide)]
  exact ROW_rf
theorem ROW_ph [Inhabited gh_] (h : PHF b F F1 M N M1 N1) (h0 : 0 ≤ T) (hT : T ≠ M 1 18) : ROW M N M1 N1 T := by
  have x : ∀ r : Nat, r ≠ 1 → r ∉ vxL → M1 r = M r := h.1.1
  have q : ∀ r : Nat, r ≠ 6 → r ∉ vqL → N1 r = N r := h.1.2.2.1
  obtain ⟨p1, p2, p3⟩ := h.2.1
  have y := p1 T hT
  refine ⟨⟨by rw [x 58 (by decide) (by decide)], by rw [x 120 (by decide) (by decide)], by rw [x 121 (by decide) (by decide)], by rw [x 123 (by decide) (by decide)], y.1.1, y.1.2.1, y.1.2.2, by rw [x 128 (by decide) (by decide)]⟩, ⟨by rw [q 167 (by decide) (by decide)], by rw [q 168 (by decide) (by decide)], by rw [q 169 (by decide) (by decide)], y.2.2.1, y.2.2.2.1, y.2.2.2.2, by rw [q 174 (by decide) (by decide)], by rw [q 175 (by decide) (by decide)]⟩, fun k k0 k1 => ?_, fun k k0 k1 => ?_, fun k k0 k1 => ?_, fun k k0 k1 => ?_⟩
  · exact p2 (8 * T + k) (by (clear h h0 x q p1 p2 p3 y; omega))
  · exact p3 (3 * T + k) (by (clear h h0 x q p1 p2 p3 y; omega))
  · rw [x 59 (by decide) (by decide), q 179 (by decide) (by decide), q 186 (by decide) (by decide)]; exact ⟨rfl, rfl, rfl⟩
  · rw [x 62 (by decide) (by decide), q 180 (by decide) (by decide), q 187 (by decide) (by decide)]; exact ⟨rfl, rfl, rfl⟩
theorem ROW_st [Inhabited gh_] (h : STF b F F1 M N M1 N1) (h0 : 0 ≤ T) (hT : T ≠ M 1 18) (h123 : M 123 (M 1 18) ≤ 12 ∧ 0 ≤ M 123 (M 1 18)) (hl : 0 ≤ lc_ b M ∧ lc_ b M ≤ 10) : ROW M N M1 N1 T := by
  have x : ∀ r : Nat, r ∉ xbL → M1 r = M r := h.1.1
  have q : ∀ r : Nat, r ∉ qbL → N1 r = N r := h.2.1.1
  obtain ⟨s1, s2, _⟩ := h.2.2.2.1
  obtain ⟨l1, l2, _⟩ := h.2.2.2.2.2
  have y := s2 T hT
  have w := l1 T hT
  refine ⟨⟨by rw [x 58 (by decide)], by rw [x 120 (by decide)], by rw [x 121 (by decide)], y.1, by rw [x 124 (by decide)], by rw [x 125 (by decide)], by rw [x 126 (by decide)], w.1⟩, ⟨by rw [q 167 (by decide)], by rw [q 168 (by decide)], by rw [q 169 (by decide)], by rw [q 171 (by decide)], by rw [q 172 (by decide)], by rw [q 173 (by decide)], y.2, w.2⟩, fun k k0 k1 => ?_, fun k k0 k1 => ?_, fun k k0 k1 => ?_, fun k k0 k1 => ?_⟩
  · rw [x 60 (by decide), x 130 (by decide), x 131 (by decide), x 132 (by decide), q 177 (by decide), q 181 (by decide), q 182 (by decide), q 183 (by decide), q 184 (by decide)]; exact ⟨⟨rfl, rfl, rfl, rfl⟩, rfl, rfl, rfl, rfl, rfl⟩
  · rw [x 61 (by decide), q 178 (by decide), q 185 (by decide)]; exact ⟨rfl, rfl, rfl⟩
  · exact s1 (12 * T + k) (by (clear h h0 hl x q s1 s2 l1 l2 y w; lia))
  · exact l2 (10 * T + k) (by (clear h h0 h123 x q s1 s2 l1 l2 y w; lia))
theorem PRO_SYS [Inhabited gh_] (h : SYS b F M N a ns nr np) (hP : PRO b F F' M N M' N' np a a') (aa : a + 2 ≤ a') : SYS b F' M' N' a' ns nr (np + 1) := by
  obtain ⟨F1, Mz, Nz, Ma, Na, Z, pz, k58, k52, ct, Ha, Mh, Nh, ah, c, Fh, Hh, ph, cb, cc, n170, S', P', f', at'⟩ := hP
  obtain ⟨e18, e19, e29, e33, e61⟩ := hd_18 ct
  have hnp := h.2.1.2.1
  rw [e18] at ph
  have h18 : Mh 1 18 = np := by rw [ph.1.2.1 18 (by decide), up_ne (by decide)]; exact e18
  have m18 : M' 1 18 = np := (sB_18 f').trans h18
  have n61 : N' 6 61 = np := S'.1.1.2.1.2.1.trans m18
  -- frames from Mz to the end
  have xr : ∀ r : Nat, r ∉ xbL → r ∉ vxL → r ≠ 127 → r ≠ 122 → r ≠ 120 → r ≠ 121 → M' r = Mz r := fun r h1 h2 h3 h4 h5 h6 => by
    have r1 : r ≠ 1 := fun e => h1 (by rw [e]; decide)
    rw [sB_r f' h1 h3, ph.1.1 r r1 h2, up_ne h4, ct.1 r r1 h5 h6, sT_r r1]
  have qr : ∀ r : Nat, r ∉ qbL → r ∉ vqL → r ≠ 176 → r ≠ 168 → r ≠ 169 → N' r = Nz r := fun r h1 h2 h3 h4 h5 => by
    have r6 : r ≠ 6 := fun e => h1 (by rw [e]; decide)
    rw [sB_q f' h1 h3, ph.1.2.2.1 r r6 h2, ct.2.2.2.1 r r6 h4 h5, up_ne r6]
  have x5 : ∀ i : Int, i ≠ 3 → i ≠ 4 → M' 5 i = Mz 5 i := fun i h3 h4 => by
    rw [f'.1.2.2 i h3 h4, sBX_r (by decide) (by decide), ph.1.1 5 (by decide) (by decide), up_ne (by decide), ct.1 5 (by decide) (by decide) (by decide), sT_r (by decide)]
  have x1 : ∀ i : Int, i ∉ xbI → M' 1 i = sT_ Mz np 1 i := fun i hi => by
    rw [f'.1.2.1 i hi, sBX_1 (nm_i hi (by decide)), ph.1.2.1 i (fun e => hi (by revert e; unfold xbI; simp only [List.mem_cons, List.not_mem_nil, or_false]; (clear h aa Z pz k58 k52 ct Ha Hh ph cb cc n170 S' P' f' at' e18 e19 e29 e33 e61 hnp h18 m18 n61 xr qr x5 hi; lia))), up_ne (by decide), ct.2.2.1 i (nm_i hi (by decide)) (nm_i hi (by decide)) (nm_i hi (by decide)) (nm_i hi (by decide))]
  have q6 : ∀ i : Int, i ∉ qbI → i ≠ 61 → N' 6 i = Nz 6 i := fun i hi h61 => by
    rw [f'.2.1.2 i hi, sBQ_6 (nm_i hi (by decide)), ph.1.2.2.2 i (fun e => hi (by revert e; unfold qbI; simp only [List.mem_cons, List.not_mem_nil, or_false]; (clear h aa Z pz k58 k52 ct Ha Hh ph cb cc n170 S' P' f' at' e18 e19 e29 e33 e61 hnp h18 m18 n61 xr qr x5 x1 hi h61; lia))), ct.2.2.2.2.2.1 i (nm_i hi (by decide)) (nm_i hi (by decide)) (nm_i hi (by decide)), up_of2 h61]
  have e70 := xr 70 (by decide) (by decide) (by decide) (by decide) (by decide) (by decide)
  have e71 := xr 71 (by decide) (by decide) (by decide) (by decide) (by decide) (by decide)
  have l58 := xr 58 (by decide) (by decide) (by decide) (by decide) (by decide) (by decide)
  have e151 := qr 151 (by decide) (by decide) (by decide) (by decide) (by decide)
  have e52 : M' 5 2 = Mz 5 2 := x5 2 (by decide) (by decide)
  have fF : F' ≤ Fh ∧ Fh ≤ F1 := ⟨f'.2.2.2.2.1.1, ph.2.2.2.1⟩
  have glm : ∀ u, GLM M' u ↔ GLM Mz u := fun u => by
    unfold GLM
    rw [x5 0 (by decide) (by decide), x5 1 (by decide) (by decide), e52, l58, xr 56 (by decide) (by decide) (by decide) (by decide) (by decide) (by decide), xr 57 (by decide) (by decide) (by decide) (by decide) (by decide) (by decide)]
  have row : ∀ T, 0 ≤ T → T ≠ np → ROW Mz Nz M' N' T := fun T T0 hT => by
    have b18 : sBX Mh 1 18 = np := by rw [sBX_1 (by decide)]; exact h18
    have c123 := Hh.1.1.2.2.2.1.1
    rw [h18] at c123
    have lcc : lc_ b (sBX Mh) = 0 := by
      unfold lc_
      rcases bl01 (TS_E S'.1) with hb | hb
      · rw [if_pos hb, b18, sBX_r (by decide) (by decide), ph.1.1 128 (by decide) (by decide), up_ne (by decide), ct.1 128 (by decide) (by decide) (by decide), sT_r (by decide)]
        exact (pz.2.2.2.2 hb).2.1.2.2.2
      · rw [if_neg (by omega), sBX_1 (by decide), ph.1.2.1 19 (by decide), up_ne (by decide)]; exact e19
    have r1 : ROW Mz Nz (sT_ Mz np) (up_ Nz 6 61 np) T := ROW_e (fun r hr => sT_r (fun e => by rw [e] at hr; revert hr; decide)) (fun r hr => up_ne (fun e => by rw [e] at hr; revert hr; decide))
    have r2 := ROW_ct ct hT
    have r3 : ROW Ma Na (up_ Ma 122 np c) Na T := ROW_e (fun r hr => up_ne (fun e => by rw [e] at hr; revert hr; decide)) (fun _ _ => rfl)
    have r4 := ROW_ph ph T0 (by rw [up_ne (by decide), e18]; exact hT)
    have r5 : ROW Mh Nh (sBX Mh) (sBQ Mh Nh) T := ROW_e (fun r hr => sBX_r (fun e => by rw [e] at hr; revert hr; decide) (fun e => by rw [e] at hr; revert hr; decide)) (fun r hr => sBQ_r (fun e => by rw [e] at hr; revert hr; decide) (fun e => by rw [e] at hr; revert hr; decide))
    have r6 := ROW_st f' T0 (by rw [b18]; exact hT) (by rw [b18, sBX_r (by decide) (by decide)]; (clear h aa Z pz k58 k52 ct Ha Hh ph cb cc n170 S' P' f' at' e18 e19 e29 e33 e61 hnp h18 m18 n61 xr qr x5 x1 q6 e70 e71 l58 e151 e52 fF glm T0 hT b18 lcc r1 r2 r3 r4 r5; lia)) (by rw [lcc]; decide)
    exact ROW_tr r1 (ROW_tr r2 (ROW_tr r3 (ROW_tr r4 (ROW_tr r5 r6))))
  have k120 : M' 120 = Ma 120 := by rw [sB_r f' (by decide) (by decide), ph.1.1 120 (by decide) (by decide), up_ne (by decide)]
  have k121 : M' 121 = Ma 121 := by rw [sB_r f' (by decide) (by decide), ph.1.1 121 (by decide) (by decide), up_ne (by decide)]
  have k168 : N' 168 = Na 168 := by rw [sB_q f' (by decide) (by decide), ph.1.2.2.1 168 (by decide) (by decide)]
  have k169 : N' 169 = Na 169 := by rw [sB_q f' (by decide) (by decide), ph.1.2.2.1 169 (by decide) (by decide)]
  obtain ⟨t1, t2, t3, t4, ⟨t5, t6⟩, t7, t8, t9, t10, t11⟩ := S'.1
  obtain ⟨⟨s1, s2, s3⟩, ⟨g1, g2, g3, g4, g5⟩, ty, ⟨tp, gl⟩, _, _⟩ := Z
  refine ⟨⟨⟨t1.1, t1.2.2.1, t1.2.1.1⟩, ⟨t2.1, t2.2.1, t2.2.2.1, fun hb => (t2.2.2.2 hb).1, ?_⟩, fun T T0 T1 => ?_, ⟨by rw [e52, l58]; exact tp, fun hb u hu => by have := gl hb u ((glm u).1 hu); (clear h pz k52 ct Ha Hh ph cb cc n170 S' P' f' at' e18 e19 e29 e33 e61 hnp h18 m18 n61 xr qr x5 x1 q6 e70 e71 l58 e151 e52 fF glm row k120 k121 k168 k169 t1 t2 t3 t4 t5 t6 t7 t8 t9 t10 t11 s1 s2 s3 g1 g2 g3 g4 g5 ty tp gl hb hu; omega)⟩, ⟨⟨t1.2.2.2.1, t1.2.2.2.2.1, t11⟩, by (clear h aa pz k58 k52 ct Ha Hh ph cb cc n170 S' P' f' at' e18 e19 e29 e33 e61 hnp h18 m18 n61 xr qr x5 x1 q6 e70 e71 l58 e151 e52 fF glm row k120 k121 k168 k169 t1 t2 t3 t4 t5 t7 t8 t9 t10 t11 s1 s2 s3 g1 g2 g3 g4 g5 ty tp gl; omega), t7, t8, t9, by have := S'.2.1; (clear h aa pz k58 k52 ct Ha Hh ph cb cc n170 S' P' f' at' e18 e19 e29 e33 e61 hnp h18 m18 n61 xr qr x5 x1 q6 e70 e71 l58 e151 e52 fF glm row k120 k121 k168 k169 t1 t2 t3 t4 t5 t6 t7 t8 t9 t10 t11 s1 s2 s3 g1 g2 g3 g4 g5 ty tp gl; omega), by have := S'.2.1; (clear h aa pz k58 k52 ct Ha Hh ph cb cc n170 S' P' f' at' e18 e19 e29 e33 e61 hnp h18 m18 n61 xr qr x5 x1 q6 e70 e71 l58 e151 e52 fF glm row k120 k121 k168 k169 t1 t2 t3 t4 t5 t6 t7 t8 t9 t10 t11 s1 s2 s3 g1 g2 g3 g4 g5 ty tp gl; omega), by have := S'.2.1; (clear h aa pz k58 k52 ct Ha Hh ph cb cc n170 S' P' f' at' e18 e19 e29 e33 e61 hnp h18 m18 n61 xr qr x5 x1 q6 e70 e71 l58 e151 e52 fF glm row k120 k121 k168 k169 t1 t2 t3 t4 t5 t6 t7 t8 t9 t10 t11 s1 s2 s3 g1 g2 g3 g4 g5 ty tp gl; omega)⟩, S'.2.2⟩, ⟨⟨?_, ?_, ?_⟩, ⟨hnp.1, hnp.2.1, by (clear h aa pz k58 k52 ct Ha Hh ph cb cc n170 S' P' f' at' e19 e29 xr qr x5 x1 q6 e70 e71 l58 e151 e52 fF glm row k120 k121 k168 k169 t1 t2 t3 t4 t5 t6 t7 t8 t9 t10 t11 s1 s2 s3 g1 g2 g3 g4 g5 ty tp gl; omega)⟩, fun hb => ?_⟩, fun T T0 T1 => ?_⟩
  · obtain ⟨u1, u3, u4, u5⟩ := g5
    unfold GLT
    rw [q6 58 (by decide) (by decide), x5 0 (by decide) (by decide), x5 1 (by decide) (by decide), e52, e151, e71, qr 190 (by decide) (by decide) (by decide) (by decide) (by decide), qr 191 (by decide) (by decide) (by decide) (by decide) (by decide), qr 155 (by decide) (by decide) (by decide) (by decide) (by decide), xr 56 (by decide) (by decide) (by decide) (by decide) (by decide) (by decide)]
    refine ⟨u1, fun i i0 i1 => ?_, fun u v hu hv he hl => by have := u4 u v ((glm u).1 hu) ((glm v).1 hv) he hl; (clear h aa pz k58 k52 ct Ha Hh ph cb cc n170 S' P' f' at' e18 e19 e29 e33 e61 hnp h18 m18 n61 xr qr x5 x1 q6 e70 e71 l58 e151 e52 glm row k120 k121 k168 k169 t1 t2 t3 t4 t5 t6 t7 t8 t9 t10 t11 s1 s2 s3 g1 g2 g3 g4 ty tp gl u1 u3 u4 u5 hu hv he hl; omega), u5.1, fun u hu => u5.2 u ((glm u).1 hu)⟩
    obtain ⟨u, hu, w⟩ := u3 i i0 i1
    exact ⟨u, ⟨nm9_r hu.1 e70, (glm u).2 hu.2⟩, w⟩
  · by_cases cT : T = np
    · rw [cT]
      have tv := ty np hnp.2.2 k52
      refine ⟨?_, ?_, ?_, fun k k0 k1 => ?_, ?_, ?_⟩
      · have := t1.2.1.2.2.2.2
        rw [m18] at this; exact this
      · have := TBL_c (M1 := M') (N1 := N') Hh.2.1 (fun r hr => sB_r f' (fun e => by revert hr e; unfold xbL; simp only [List.mem_cons, List.not_mem_nil, or_false]; (clear h aa pz k58 k52 ct Ha Hh ph cb cc n170 S' P' f' at' e18 e19 e29 e33 e61 hnp h18 m18 n61 xr qr x5 x1 q6 e70 e71 l58 e151 e52 fF glm row k120 k121 k168 k169 t1 t2 t3 t4 t5 t6 t7 t8 t9 t10 t11 s1 s2 s3 g1 g2 g3 g4 g5 ty tp gl T0 T1 cT tv; omega)) (fun e => by rw [e] at hr; revert hr; decide)) (fun r hr => sB_q f' (fun e => by revert hr e; unfold qbL; simp only [List.mem_cons, List.not_mem_nil, or_false]; (clear h aa pz k58 k52 ct Ha Hh ph cb cc n170 S' P' f' at' e18 e19 e29 e33 e61 hnp h18 m18 n61 xr qr x5 x1 q6 e70 e71 l58 e151 e52 fF glm row k120 k121 k168 k169 t1 t2 t3 t4 t5 t6 t7 t8 t9 t10 t11 s1 s2 s3 g1 g2 g3 g4 g5 ty tp gl T0 T1 cT tv; omega)) (fun e => by rw [e] at hr; revert hr; decide))
        rw [h18] at this
        exact TBL_F this fF.1
      · have : STt M' N' (M' 1 18) := t4
        rw [m18] at this; exact this
      · obtain ⟨n1, n2, n3, n4, n5⟩ := f'.2.2.2.1
        have b18 : sBX Mh 1 18 = np := by rw [sBX_1 (by decide)]; exact h18
        rw [b18] at n4
        rcases bl01 (TS_E S'.1) with hb | hb
        · have z0 : sBX Mh 123 np = 0 := by
            rw [sBX_r (by decide) (by decide), ph.1.1 123 (by decide) (by decide), up_ne (by decide), ct.1 123 (by decide) (by decide) (by decide), sT_r (by decide)]
            exact (pz.2.2.2.2 hb).2.1.1
          exact n4 k (by rw [z0]; exact k0) k1
        · have z := n5 hb
          have w : ∀ r : Nat, r = 59 ∨ r = 123 → M' r = Mz r := fun r hr => by
            have e : M' r = sBX Mh r := by
              rcases hr with e | e
              · rw [e]; exact z.1
              · rw [e]; exact z.2.1
            rw [e, sBX_r (by (clear h aa pz k58 k52 ct Ha Hh ph cb cc n170 S' P' f' at' e18 e19 e29 e33 e61 hnp h18 m18 n61 xr qr x5 x1 q6 e70 e71 l58 e151 e52 fF glm row k120 k121 k168 k169 t1 t2 t3 t4 t5 t6 t7 t8 t9 t10 t11 s1 s2 s3 g1 g2 g3 g4 g5 ty tp gl T0 T1 cT tv k0 k1 n1 n2 n3 n4 n5 b18 hb z e; omega)) (by (clear h aa pz k58 k52 ct Ha Hh ph cb cc n170 S' P' f' at' e18 e19 e29 e33 e61 hnp h18 m18 n61 xr qr x5 x1 q6 e70 e71 l58 e151 e52 fF glm row k120 k121 k168 k169 t1 t2 t3 t4 t5 t6 t7 t8 t9 t10 t11 s1 s2 s3 g1 g2 g3 g4 g5 ty tp gl T0 T1 cT tv k0 k1 n1 n2 n3 n4 n5 b18 hb z e; omega)), ph.1.1 r (by omega) (by unfold vxL; simp only [List.mem_cons, List.not_mem_nil, or_false]; (clear h aa pz k58 k52 ct Ha Hh ph cb cc n170 S' P' f' at' e18 e19 e29 e33 e61 hnp h18 m18 n61 xr qr x5 x1 q6 e70 e71 l58 e151 e52 fF glm row k120 k121 k168 k169 t1 t2 t3 t4 t5 t6 t7 t8 t9 t10 t11 s1 s2 s3 g1 g2 g3 g4 g5 ty tp gl T0 T1 cT tv k0 k1 n1 n2 n3 n4 n5 b18 hb z e; omega)), up_ne (by (clear h aa pz k58 k52 ct Ha Hh ph cb cc n170 S' P' f' at' e18 e19 e29 e33 e61 hnp h18 m18 n61 xr qr x5 x1 q6 e70 e71 l58 e151 e52 fF glm row k120 k121 k168 k169 t1 t2 t3 t4 t5 t6 t7 t8 t9 t10 t11 s1 s2 s3 g1 g2 g3 g4 g5 ty tp gl T0 T1 cT tv k0 k1 n1 n2 n3 n4 n5 b18 hb z e; omega)), ct.1 r (by omega) (by (clear h aa pz k58 k52 ct Ha Hh ph cb cc n170 S' P' f' at' e18 e19 e29 e33 e61 hnp h18 m18 n61 xr qr x5 x1 q6 e70 e71 l58 e151 e52 fF glm row k120 k121 k168 k169 t1 t2 t3 t4 t5 t6 t7 t8 t9 t10 t11 s1 s2 s3 g1 g2 g3 g4 g5 ty tp gl T0 T1 cT tv k0 k1 n1 n2 n3 n4 n5 b18 hb z e; lia)) (by (clear h aa pz k58 k52 ct Ha Hh ph cb cc n170 S' P' f' at' e18 e19 e29 e33 e61 hnp h18 m18 n61 xr qr x5 x1 q6 e70 e71 l58 e151 e52 fF glm row k120 k121 k168 k169 t1 t2 t3 t4 t5 t6 t7 t8 t9 t10 t11 s1 s2 s3 g1 g2 g3 g4 g5 ty tp gl T0 T1 cT tv k0 k1 n1 n2 n3 n4 n5 b18 hb z e; omega)), sT_r (by omega)]
          rw [w 123 (.inr rfl)] at k1
          rw [w 59 (.inl rfl), e71, z.2.2.2.2, sBQ_r (by decide) (by decide), ph.1.2.2.1 186 (by decide) (by decide), ct.2.2.2.1 186 (by decide) (by decide) (by decide), up_ne (by decide)]
          exact tv.2.2.2.1 k k0 k1
      · have : LBt b F' M' N' a' (M' 1 18) := ⟨t3.1, t3.2.1⟩
        rw [m18] at this; exact this
      · rw [qr 167 (by decide) (by decide) (by decide) (by decide) (by decide), e71, l58]; exact tv.2.2.2.2.2
    · rw [e52] at T1
      exact TYP_c (ty T T0 T1) (row T T0 cT) e70 e71 e151 (by (clear h aa pz k58 k52 ct Ha Hh ph cb cc n170 S' P' f' at' e18 e19 e29 e33 e61 hnp h18 m18 n61 xr qr x5 x1 q6 e70 e71 l58 e151 e52 glm row k120 k121 k168 k169 t1 t2 t3 t4 t5 t6 t7 t8 t9 t10 t11 s1 s2 s3 g1 g2 g3 g4 g5 ty tp gl T0 T1 cT; omega)) aa
  · rw [x1 31 (by decide), sT_1 (by decide) (by decide) (by decide) (by decide) (by decide), pz.1.2.2.2 31 (by decide)]; exact h.2.1.1.1
  · rw [x1 32 (by decide), sT_1 (by decide) (by decide) (by decide) (by decide) (by decide), pz.1.2.2.2 32 (by decide)]; exact h.2.1.1.2.1
  · rw [x1 33 (by decide)]; exact sT_k.2.2.2
  · have w := h.2.1.2.2 hb
    rw [x5 0 (by decide) (by decide), x5 1 (by decide) (by decide), e52, pz.1.2.2.1 0 (by decide), pz.1.2.2.1 1 (by decide)]
    exact ⟨w.1, w.2.1, (pz.2.2.2.2 hb).1⟩
  · rw [e52] at T1
    by_cases cT : T = np
    · rw [cT]
      have z := ct.2.2.2.2.2.2.1
      unfold CNT at z ⊢
      rw [k120, k121, k168, k169]; exact z
    · have T2 : T < M 5 2 := by
        rcases bl01 (TS_E S'.1) with hb | hb
        · have := (pz.2.2.2.2 hb).1
          have := (h.2.1.2.2 hb).2.2
          (clear h aa pz k58 k52 ct Ha Hh ph cb cc n170 S' P' f' at' e19 e29 hnp xr qr x5 x1 q6 e70 e71 l58 e151 fF glm row k120 k121 k168 k169 t1 t2 t3 t4 t5 t6 t7 t8 t9 t10 t11 s1 s2 s3 g1 g2 g3 g4 g5 ty tp gl T0 hb; lia)
        · rw [(pz.2.2.1 hb).1 5 (by decide)] at T1; exact T1
      exact CNT_c (h.2.2 T T0 T2) (ROW_tr (ROW_z pz cT) (row T T0 cT))
end PSy
end T259_ps
section T260_cm
/-! comeTo (X 178): ors grow -/
def uB (v : Int) : Nat := (Int32.ofInt v).toBitVec.toNat
def uM (v : Int) : Nat := 2 * uB v + (if (Int32.ofInt v).toInt = v then 1 else 0)
section UB
variable {x y : Int}
theorem uB_lt [Inhabited gh_] : uB x < 4294967296 := (Int32.ofInt x).toBitVec.isLt
theorem uM_lt [Inhabited gh_] : uM x < 8589934600 := by
  have := uB_lt (x := x)
  unfold uM; split <;> omega
theorem or_oi [Inhabited gh_] : Int32.ofInt (or_ x y) = Int32.ofInt x ||| Int32.ofInt y := by unfold or_; exact Int32.ofInt_toInt _
theorem or_rg [Inhabited gh_] : (Int32.ofInt (or_ x y)).toInt = or_ x y := by rw [or_oi]; rfl
theorem or_uB [Inhabited gh_] : uB (or_ x y) = uB x ||| uB y := by
  unfold uB
  rw [or_oi, Int32.toBitVec_or, BitVec.toNat_or]
theorem or_up [Inhabited gh_] (h : or_ x y ≠ x) : uM x < uM (or_ x y) := by
  have e := or_uB (x := x) (y := y)
  have le : uB x ≤ uB x ||| uB y := Nat.left_le_or
  unfold uM
  rw [e, if_pos or_rg]
  by_cases c : uB x ||| uB y = uB x
  · have e2 : Int32.ofInt x ||| Int32.ofInt y = Int32.ofInt x := by
      have : (Int32.ofInt x ||| Int32.ofInt y).toBitVec = (Int32.ofInt x).toBitVec := by
        apply BitVec.eq_of_toNat_eq
        rw [Int32.toBitVec_or, BitVec.toNat_or]; exact c
      exact Int32.toBitVec_inj.1 this
    have e3 : (Int32.ofInt x).toInt = or_ x y := by unfold or_; rw [e2]
    rw [if_neg (fun c2 => h (by rw [← e3]; exact c2)), c]; (clear h e le c e2 e3; lia)
  · split <;> (clear h e; omega)
end UB
end T260_cm
section T261_cm
/-! comeTo (X 178): the loops -/
def sm9 (f : Int → Int) : Nat → Nat
  | 0 => 0
  | n + 1 => sm9 f n + (8589934600 - uM (f n))
theorem sm9_o [Inhabited gh_] {f : Int → Int} {i v : Int} : ∀ n : Nat, (n : Int) ≤ i → sm9 (su_ f i v) n = sm9 f n
  | 0, _ => rfl
  | n + 1, h => by
    unfold sm9
    rw [sm9_o n (by omega), su_at, if_neg (by omega)]
theorem sm9_lt [Inhabited gh_] {f : Int → Int} {i v : Int} (hv : uM (f i) < uM v) (h0 : 0 ≤ i) : ∀ n : Nat, i < (n : Int) → sm9 (su_ f i v) n < sm9 f n
  | 0, h => by (clear hv; omega)
  | n + 1, h => by
    have u := uM_lt (x := v)
    unfold sm9
    by_cases c : i = (n : Int)
    · rw [sm9_o n (by omega), su_at, if_pos c.symm]
      rw [c] at hv
      omega
    · have := sm9_lt hv h0 n (by omega)
      rw [su_at, if_neg (fun e => c e.symm)]; omega
section CM
variable {d : Nat} {M : mm_} {Kv : mm_ → Prop} {Qt : qt_} {V : vv_} {n : Nat} {I : (Int → Int) → Prop} {C : (Int → Int) → Int → Int → Prop}
/-- closed up to the pair -/
def CLp (M : mm_) (f : Int → Int) (n x2 x3 : Int) : Prop := ∀ y z, 0 ≤ y → 0 ≤ z → z < n → (y < x2 ∨ (y = x2 ∧ z < x3)) → an_ (M 65 y) (M 64 z) ≠ 0 → or_ (f y) (f z) = f y
def FLp (M : mm_) (f0 f : Int → Int) (n : Nat) (x1 x2 x3 : Int) : Prop := (x1 = 0 ∧ f = f0 ∧ CLp M f0 n x2 x3) ∨ (x1 = 1 ∧ sm9 f n < sm9 f0 n)
theorem l_178b [Inhabited gh_] (hV : Cl_ wd0 (Tr_ wd0 pg0 d) V (rv_ Kv) Qt m_178) (hW : Wk_ V) (hn : M 1 29 = (n : Int)) (h6 : n ≤ 600) (hI : ∀ f x y, I f → (0 ≤ x ∧ x < (n : Int)) → (0 ≤ y ∧ y < (n : Int)) → an_ (M 65 x) (M 64 y) ≠ 0 → I (su_ f x (or_ (f x) (f y)))) (f0 : Int → Int) (x2 : Int) (h2 : 0 ≤ x2 ∧ x2 < (n : Int))
    (hend : ∀ x1 f, I f → FLp M f0 f n x1 (x2 + 1) 0 → V 10 [rr 1, ii x1, ii (x2 + 1), none, none, none] [] (wr_ M 63 f)) :
    ∀ (k : Nat) (x1 x3 : Int) (f : Int → Int), (n : Int) - x3 ≤ (k : Int) → 0 ≤ x3 → x3 ≤ (n : Int) → I f → FLp M f0 f n x1 x2 x3 → V 20 [rr 1, ii x1, ii x2, ii x3, none, none] [] (wr_ M 63 f)
  | k, x1, x3, f, hk, h3, h3', hf, hF => by
    have e1 : wr_ M 63 f 1 = M 1 := wr_ne (by decide)
    have e64 : wr_ M 63 f 64 = M 64 := wr_ne (by decide)
    have e65 : wr_ M 63 f 65 = M 65 := wr_ne (by decide)
    refine b_178_20 (Tr_mono _) hV hW _ _ _ _ ?_
    rw [e1, hn, e64, e65, wr_same]
    by_cases c : x3 < (n : Int)
    · rw [if_pos c, w32_id (x := x3 + 1) (by omega) (by omega)]
      have nx : ∀ x1 f, I f → FLp M f0 f n x1 x2 (x3 + 1) → V 20 [rr 1, ii x1, ii x2, ii (x3 + 1), none, none] [] (wr_ M 63 f) := fun x1 f hf hF => by
        cases k with
        | zero => omega
        | succ m => exact l_178b hV hW hn h6 hI f0 x2 h2 hend m x1 (x3 + 1) f (by omega) (by omega) (by omega) hf hF
      have stay : (an_ (M 65 x2) (M 64 x3) ≠ 0 → or_ (f x2) (f x3) = f x2) → FLp M f0 f n x1 x2 (x3 + 1) := fun hs => by
        rcases hF with ⟨a1, a2, a3⟩ | a
        · refine .inl ⟨a1, a2, fun y z y0 z0 z1 hyz hj => ?_⟩
          by_cases ce : y = x2 ∧ z = x3
          · rw [ce.1, ce.2] at hj ⊢
            rw [← a2]; exact hs hj
          · exact a3 y z y0 z0 z1 (by (clear hV hW hn h6 hI h2 hend hk h3 h3' hf e1 e64 e65 c nx hs a1 a2 a3 y0 z0 z1; lia)) hj
        · exact .inr a
      refine ⟨by omega, by (clear hV hW hn hI h2 hend hk h3' hf hF e1 e64 e65 nx stay; lia), ?_⟩
      by_cases cj : an_ (M 65 x2) (M 64 x3) = 0
      · rw [if_pos cj]
        exact nx _ _ hf (stay (fun e => absurd cj e))
      · rw [if_neg cj]
        refine ⟨by omega, by omega, by omega, ?_⟩
        by_cases co : or_ (f x2) (f x3) = f x2
        · rw [if_pos co]
          exact nx _ _ hf (stay (fun _ => co))
        · rw [if_neg co, up_wr]
          have dec := sm9_lt (f := f) (i := x2) (or_up co) h2.1 n h2.2
          refine ⟨by omega, by omega, by omega, nx _ _ (hI f x2 x3 hf h2 ⟨h3, c⟩ cj) (.inr ⟨rfl, ?_⟩)⟩
          rcases hF with ⟨a1, a2, a3⟩ | a
          · rw [← a2]; exact dec
          · have := a.2; omega
    · rw [if_neg c, w32_id (x := x2 + 1) (by omega) (by omega)]
      refine hend x1 f hf ?_
      rcases hF with ⟨a1, a2, a3⟩ | a
      · exact .inl ⟨a1, a2, fun y z y0 z0 z1 hyz hj => a3 y z y0 z0 z1 (by omega) hj⟩
      · exact .inr a
theorem l_178c [Inhabited gh_] (hV : Cl_ wd0 (Tr_ wd0 pg0 d) V (rv_ Kv) Qt m_178) (hW : Wk_ V) (hn : M 1 29 = (n : Int)) (h6 : n ≤ 600) (hI : ∀ f x y, I f → (0 ≤ x ∧ x < (n : Int)) → (0 ≤ y ∧ y < (n : Int)) → an_ (M 65 x) (M 64 y) ≠ 0 → I (su_ f x (or_ (f x) (f y)))) (f0 : Int → Int)
    (hend : ∀ x1 f, I f → FLp M f0 f n x1 (n : Int) 0 → V 2 [rr 1, ii x1, none, none, none, none] [] (wr_ M 63 f)) :
    ∀ (k : Nat) (x1 x2 : Int) (f : Int → Int), (n : Int) - x2 ≤ (k : Int) → 0 ≤ x2 → x2 ≤ (n : Int) → I f → FLp M f0 f n x1 x2 0 → V 10 [rr 1, ii x1, ii x2, none, none, none] [] (wr_ M 63 f)
  | k, x1, x2, f, hk, h2, h2', hf, hF => by
    have e1 : wr_ M 63 f 1 = M 1 := wr_ne (by decide)
    refine b_178_10 (Tr_mono _) hV hW _ _ _ ?_
    rw [e1, hn]
    by_cases c : x2 < (n : Int)
    · rw [if_pos c]
      refine l_178b hV hW hn h6 hI f0 x2 ⟨h2, c⟩ (fun x1 f hf hF => ?_) n x1 0 f (by omega) (by omega) (by omega) hf hF
      cases k with
      | zero => omega
      | succ m => exact l_178c hV hW hn h6 hI f0 hend m x1 (x2 + 1) f (by (clear hV hW hn h6 hI hend h2 h2' e1 c hf hF; omega)) (by omega) (by omega) hf hF
    · rw [if_neg c]
      have : x2 = (n : Int) := by omega
      rw [this] at hF
      exact hend x1 f hf hF
/-- the first loop: tells, closed under joins -/
theorem l_178a [Inhabited gh_] (hV : Cl_ wd0 (Tr_ wd0 pg0 d) V (rv_ Kv) Qt m_178) (hW : Wk_ V) (hn : M 1 29 = (n : Int)) (h6 : n ≤ 600) (hI : ∀ f x y, I f → (0 ≤ x ∧ x < (n : Int)) → (0 ≤ y ∧ y < (n : Int)) → an_ (M 65 x) (M 64 y) ≠ 0 → I (su_ f x (or_ (f x) (f y))))
    (hend : ∀ f, I f → CLp M f n (n : Int) 0 → V 108 [rr 1, ii 0, ii 0, ii 0, ii 0, none] [] (wr_ M 63 f)) :
    ∀ (m : Nat) (f : Int → Int), sm9 f n ≤ m → I f → V 2 [rr 1, ii 1, none, none, none, none] [] (wr_ M 63 f)
  | m, f, hm, hf => by
    refine b_178_2 (Tr_mono _) hV hW _ _ ?_
    rw [if_neg (by decide)]
    refine l_178c hV hW hn h6 hI f (fun x1 f' hf' hF => ?_) n 0 0 f (by omega) (by omega) (by omega) hf (.inl ⟨rfl, rfl, fun y z y0 z0 z1 hyz _ => by omega⟩)
    rcases hF with ⟨a1, a2, a3⟩ | ⟨a1, a2⟩
    · rw [a1]
      refine b_178_2 (Tr_mono _) hV hW _ _ ?_
      rw [if_pos rfl]
      exact hend f' hf' (by rw [a2]; exact a3)
    · rw [a1]
      cases m with
      | zero => omega
      | succ m' => exact l_178a hV hW hn h6 hI hend m' f' (by omega) hf'
end CM
end T261_cm
section T262_cm
/-! comeTo (X 178): the states come to -/
def c0_ (M : mm_) (f : Int → Int) : Nat → Int
  | 0 => 0
  | k + 1 => or_ (c0_ M f k) (if M 66 k = -1 then f k else 0)
def j0_ (M : mm_) : Nat → Int
  | 0 => 0
  | k + 1 => or_ (j0_ M k) (M 65 k)
/-- X's end -/
def cmX (M : mm_) (f : Int → Int) (c j : Int) : mm_ := up_ (up_ (wr_ M 63 f) 67 (M 1 18) (xo_ c (-1))) 68 (M 1 18) (xo_ j (-1))
def CLc (M : mm_) (f : Int → Int) (n c x5 : Int) : Prop := ∀ y, 0 ≤ y → y < n → y < x5 → M 66 y ≠ -1 → an_ (M 66 y) c ≠ 0 → or_ c (f y) = c
section CN
variable {d : Nat} {M : mm_} {f : Int → Int} {Kv : mm_ → Prop} {Qt : qt_} {V : vv_} {n : Nat} {IC : Int → Prop} {x1 j : Int}
theorem l_178d [Inhabited gh_] (hV : Cl_ wd0 (Tr_ wd0 pg0 d) V (rv_ Kv) Qt m_178) (hW : Wk_ V) (hn : M 1 29 = (n : Int)) (h6 : n ≤ 600) (hend : V 161 [rr 1, ii x1, ii (c0_ M f n), ii (j0_ M n), ii (-1), none] [] (wr_ M 63 f)) :
    ∀ (k m : Nat), m + k = n → V 108 [rr 1, ii x1, ii (c0_ M f m), ii (j0_ M m), ii (m : Int), none] [] (wr_ M 63 f)
  | k, m, hk => by
    have e1 : wr_ M 63 f 1 = M 1 := wr_ne (by decide)
    have e66 : wr_ M 63 f 66 = M 66 := wr_ne (by decide)
    have e65 : wr_ M 63 f 65 = M 65 := wr_ne (by decide)
    refine b_178_108 (Tr_mono _) hV hW _ _ _ _ _ ?_
    rw [e1, hn, e66, e65, wr_same]
    by_cases c : (m : Int) < (n : Int)
    · rw [if_pos c, w32_id (x := (m : Int) + 1) (by (clear hV hW hn h6 hend hk e1 e66 e65 c; omega)) (by (clear hV hW hn hend e1 e66 e65; omega))]
      have nx : V 108 [rr 1, ii x1, ii (c0_ M f (m + 1)), ii (j0_ M (m + 1)), ii ((m + 1 : Nat) : Int), none] [] (wr_ M 63 f) := by
        cases k with
        | zero => omega
        | succ k' => exact l_178d hV hW hn h6 hend k' (m + 1) (by omega)
      have c1 : c0_ M f (m + 1) = or_ (c0_ M f m) (if M 66 m = -1 then f m else 0) := rfl
      have j1 : j0_ M (m + 1) = or_ (j0_ M m) (M 65 m) := rfl
      have ec : ((m + 1 : Nat) : Int) = (m : Int) + 1 := by (clear hV hW hn h6 hend hk e1 e66 e65 c nx c1 j1; lia)
      rw [c1, j1, ec] at nx
      refine ⟨by omega, ?_⟩
      by_cases cs : M 66 (m : Int) = -1
      · rw [if_pos cs] at nx ⊢
        exact ⟨by omega, by omega, nx⟩
      · rw [if_neg cs] at nx ⊢
        exact ⟨by omega, nx⟩
    · rw [if_neg c, show m = n by omega]; exact hend
theorem l_178f [Inhabited gh_] (hV : Cl_ wd0 (Tr_ wd0 pg0 d) V (rv_ Kv) Qt m_178) (hW : Wk_ V) (hn : M 1 29 = (n : Int)) (h6 : n ≤ 600) (hC : ∀ c x, IC c → (0 ≤ x ∧ x < (n : Int)) → M 66 x ≠ -1 → an_ (M 66 x) c ≠ 0 → IC (or_ c (f x))) (c0 : Int)
    (hend : ∀ c, IC c → ((c = c0 ∧ CLc M f n c0 n) ∨ uM c0 < uM c) → V 161 [rr 1, ii x1, ii c, ii j, ii c0, none] [] (wr_ M 63 f)) :
    ∀ (k : Nat) (x5 c : Int), (n : Int) - x5 ≤ (k : Int) → 0 ≤ x5 → x5 ≤ (n : Int) → IC c → ((c = c0 ∧ CLc M f n c0 x5) ∨ uM c0 < uM c) → V 173 [rr 1, ii x1, ii c, ii j, ii c0, ii x5] [] (wr_ M 63 f)
  | k, x5, c, hk, h5, h5', hc, hF => by
    have e1 : wr_ M 63 f 1 = M 1 := wr_ne (by decide)
    have e66 : wr_ M 63 f 66 = M 66 := wr_ne (by decide)
    refine b_178_173 (Tr_mono _) hV hW _ _ _ _ _ _ ?_
    rw [e1, hn, e66, wr_same]
    by_cases c5 : x5 < (n : Int)
    · rw [if_pos c5, w32_id (x := x5 + 1) (by omega) (by omega)]
      have nx : ∀ c, IC c → ((c = c0 ∧ CLc M f n c0 (x5 + 1)) ∨ uM c0 < uM c) → V 173 [rr 1, ii x1, ii c, ii j, ii c0, ii (x5 + 1)] [] (wr_ M 63 f) := fun c hc hF => by
        cases k with
        | zero => omega
        | succ m => exact l_178f hV hW hn h6 hC c0 hend m (x5 + 1) c (by omega) (by omega) (by omega) hc hF
      have stay : (M 66 x5 ≠ -1 → an_ (M 66 x5) c ≠ 0 → or_ c (f x5) = c) → ((c = c0 ∧ CLc M f n c0 (x5 + 1)) ∨ uM c0 < uM c) := fun hs => by
        rcases hF with ⟨a1, a2⟩ | a
        · refine .inl ⟨a1, fun y y0 y1 y2 hy ha => ?_⟩
          by_cases ce : y = x5
          · rw [ce] at hy ha ⊢
            rw [← a1] at ha ⊢; exact hs hy ha
          · exact a2 y y0 y1 (by omega) hy ha
        · exact .inr a
      refine ⟨by omega, ?_⟩
      by_cases cs : M 66 x5 = -1
      · rw [if_pos cs]; exact nx _ hc (stay fun e => absurd cs e)
      · rw [if_neg cs]
        refine ⟨by omega, ?_⟩
        by_cases ca : an_ (M 66 x5) c = 0
        · rw [if_pos ca]; exact nx _ hc (stay fun _ e => absurd ca e)
        · rw [if_neg ca]
          refine ⟨by omega, nx _ (hC c x5 hc ⟨h5, c5⟩ cs ca) ?_⟩
          by_cases co : or_ c (f x5) = c
          · rw [co]; exact stay fun _ _ => co
          · have := or_up co
            rcases hF with ⟨a1, a2⟩ | a
            · rw [a1] at this ⊢; exact .inr this
            · exact .inr (by omega)
    · rw [if_neg c5]
      have : x5 = (n : Int) := by omega
      rw [this] at hF
      exact hend c hc hF
theorem l_178e [Inhabited gh_] (hV : Cl_ wd0 (Tr_ wd0 pg0 d) V (rv_ Kv) Qt m_178) (hW : Wk_ V) (hn : M 1 29 = (n : Int)) (h6 : n ≤ 600) (hT : 0 ≤ M 1 18 ∧ M 1 18 < 6) (hC : ∀ c x, IC c → (0 ≤ x ∧ x < (n : Int)) → M 66 x ≠ -1 → an_ (M 66 x) c ≠ 0 → IC (or_ c (f x)))
    (hend : ∀ c, IC c → (c = -1 ∨ CLc M f n c n) → Kv (cmX M f c j)) :
    ∀ (m : Nat) (c x4 : Int), 8589934600 - uM c ≤ m → IC c → (x4 = -1 ∨ (x4 = c ∧ CLc M f n c n) ∨ uM x4 < uM c) → V 161 [rr 1, ii x1, ii c, ii j, ii x4, none] [] (wr_ M 63 f)
  | m, c, x4, hm, hc, hF => by
    have e1 : wr_ M 63 f 1 = M 1 := wr_ne (by decide)
    refine b_178_161 (Tr_mono _) hV hW _ _ _ _ _ ?_
    rw [e1]
    by_cases ce : x4 = c
    · rw [if_pos ce]
      refine ⟨hT, hT, rv_i (hend c hc ?_)⟩
      rcases hF with a | a | a
      · exact .inl (by (clear hV hW hn h6 hT hC hend hm hc e1; lia))
      · exact .inr a.2
      · rw [ce] at a; omega
    · rw [if_neg ce]
      refine l_178f hV hW hn h6 hC c (fun c' hc' hF' => ?_) n 0 c (by omega) (by omega) (by omega) hc (.inl ⟨rfl, fun y y0 _ y1 _ _ => by omega⟩)
      have u := uM_lt (x := c')
      rcases hF' with ⟨a1, a2⟩ | a
      · rw [a1]
        refine b_178_161 (Tr_mono _) hV hW _ _ _ _ _ ?_
        rw [e1, if_pos rfl]
        exact ⟨hT, hT, rv_i (hend c (by rw [← a1]; exact hc') (.inr a2))⟩
      · cases m with
        | zero => have u2 := uM_lt (x := c); (clear hV hW hn h6 hT hC hend hc hF e1 ce hc' u a; omega)
        | succ m' => exact l_178e hV hW hn h6 hT hC hend m' c' c (by (clear hV hW hn h6 hT hC hend hc hF e1 ce hc'; omega)) hc' (.inr (.inr a))
theorem x_178 [Inhabited gh_] {I : (Int → Int) → Prop} {ICf : (Int → Int) → Int → Prop} (h0 : 0 ≤ M 1 29 ∧ M 1 29 ≤ 600) (hT : 0 ≤ M 1 18 ∧ M 1 18 < 6) (hn : M 1 29 = (n : Int)) (hI0 : I (M 63)) (hI : ∀ f x y, I f → (0 ≤ x ∧ x < (n : Int)) → (0 ≤ y ∧ y < (n : Int)) → an_ (M 65 x) (M 64 y) ≠ 0 → I (su_ f x (or_ (f x) (f y))))
    (hC0 : ∀ f, I f → ICf f (c0_ M f n)) (hC : ∀ f c x, I f → ICf f c → (0 ≤ x ∧ x < (n : Int)) → M 66 x ≠ -1 → an_ (M 66 x) c ≠ 0 → ICf f (or_ c (f x)))
    (hK : ∀ f c, I f → CLp M f n (n : Int) 0 → ICf f c → (c = -1 ∨ CLc M f n c n) → Kv (cmX M f c (j0_ M n))) : Tr_ wd0 pg0 (d + 1) 178 [.inr (.inr 1)] M (rv_ Kv) Qt := by
  refine t_178 fun V hV hW => b_178_0 (Tr_mono _) hV hW _ ?_
  have := l_178a (M := M) (I := I) hV hW hn (by omega) hI (fun f hf hcl => ?_) (sm9 (M 63) n) (M 63) (Nat.le_refl _) hI0
  · rw [wr_id] at this; exact this
  · refine l_178d (m := 0) (k := n) hV hW hn (by omega) ?_ (by omega)
    exact l_178e hV hW hn (by omega) hT (fun c x hc hx h1 h2 => hC f c x hf hc hx h1 h2) (fun c hc hcl2 => hK f c hf hcl hc hcl2) 8589934600 _ (-1) (by omega) (hC0 f hf) (.inl rfl)
end CN
end T262_cm
section T263_cl
/-! comeTo: what it means -/
def CMC (N : mm_) (T q0 q1 : Int) (P C : Int → Prop) : Prop := (∀ me, q0 ≤ me → me < q1 → N 215 me ≠ 0 → P me) ∧ (∀ me l, q0 ≤ me → me < q1 → P me → 0 ≤ l → l < N 175 T → bt_ (N 214 me) l → P (N 189 (10 * T + l)))
  ∧ (∀ me s, q0 ≤ me → me < q1 → P me → 0 ≤ s → bt_ (N 213 me) s → C s) ∧ (∀ me s, q0 ≤ me → me < q1 → N 215 me = 0 → 0 ≤ s → bt_ (N 212 me) s → C s → P me)
/-- a state that can be come to -/
def CMS (N : mm_) (T q0 q1 s : Int) : Prop := ∀ P C, CMC N T q0 q1 P C → C s
/-- the rows of a process, X's and Q's -/
def RWS (M N : mm_) (T q0 : Int) (n : Nat) : Prop := (∀ x, 0 ≤ x → x < (n : Int) → TRW M N T 0 x (q0 + x)) ∧ (∀ l, 0 ≤ l → l < N 175 T → l < M 1 19 ∧ q0 ≤ N 189 (10 * T + l) ∧ N 189 (10 * T + l) < q0 + n) ∧ (0 ≤ M 123 T ∧ M 123 T ≤ 12) ∧ (M 1 19 ≤ N 175 T ∧ N 175 T ≤ 10)
section CL
variable {x y c s T q0 : Int} {m n : Nat} {M N : mm_} {f : Int → Int}
theorem or_b2 [Inhabited gh_] (hm : m ≤ 31) (hx : 0 ≤ x ∧ x < ((2 ^ m : Nat) : Int)) (hy : 0 ≤ y ∧ y < ((2 ^ m : Nat) : Int)) : (0 ≤ or_ x y ∧ or_ x y < ((2 ^ m : Nat) : Int)) ∧ ∀ l : Int, 0 ≤ l → (bt_ (or_ x y) l ↔ bt_ x l ∨ bt_ y l) := by
  obtain ⟨a, ha⟩ := Int.eq_ofNat_of_zero_le hx.1
  obtain ⟨d, hd⟩ := Int.eq_ofNat_of_zero_le hy.1
  have hp : (2 ^ m : Nat) ≤ 2 ^ 31 := Nat.pow_le_pow_right (by decide) hm
  have h1 : a < 2 ^ m := by have := hx.2; rw [ha] at this; exact_mod_cast this
  have h2 : d < 2 ^ m := by have := hy.2; rw [hd] at this; exact_mod_cast this
  have e : or_ x y = ((a ||| d : Nat) : Int) := by rw [ha, hd]; exact or_nat (by (clear hm hy hd h1 h2; lia)) (by omega)
  rw [e]
  refine ⟨⟨by omega, by exact_mod_cast Nat.or_lt_two_pow h1 h2⟩, fun l l0 => ?_⟩
  unfold bt_
  rw [ha, hd, Int.toNat_natCast, Int.toNat_natCast, Int.toNat_natCast, Nat.testBit_or, Bool.or_eq_true]
theorem bt_wM [Inhabited gh_] (hn : 0 ≤ x ∧ x < wM c) (h0 : 0 ≤ c) (hs : 0 ≤ s) (h : bt_ x s) : s < c := by
  obtain ⟨a, ha⟩ := Int.eq_ofNat_of_zero_le hn.1
  have h1 : a < 2 ^ c.toNat := by have := hn.2; unfold wM at this; rw [ha] at this; exact_mod_cast this
  by_cases cc : s < c
  · exact cc
  · exfalso
    unfold bt_ at h
    rw [ha, Int.toNat_natCast] at h
    have le : 2 ^ c.toNat ≤ 2 ^ s.toNat := Nat.pow_le_pow_right (by decide) (by (clear hn h0 h ha h1; omega))
    rw [Nat.testBit_lt_two_pow (by omega)] at h
    exact absurd h (by decide)
/-- the invariant of tells -/
def IT (M N : mm_) (T q0 : Int) (n : Nat) (f : Int → Int) : Prop := ∀ x, 0 ≤ x → x < (n : Int) → (0 ≤ f x ∧ f x < wM (M 123 T)) ∧ (∀ s, 0 ≤ s → bt_ (M 63 x) s → bt_ (f x) s) ∧ ∀ s, 0 ≤ s → bt_ (f x) s → ∀ P C, CMC N T q0 (q0 + n) P C → P (q0 + x) → C s
def IS (M N : mm_) (T q0 : Int) (n : Nat) (f : Int → Int) (c : Int) : Prop := (0 ≤ c ∧ c < wM (M 123 T)) ∧ (∀ x s, 0 ≤ x → x < (n : Int) → M 66 x = -1 → 0 ≤ s → bt_ (f x) s → bt_ c s) ∧ ∀ s, 0 ≤ s → bt_ c s → CMS N T q0 (q0 + n) s
theorem IT_0 [Inhabited gh_] (h : RWS M N T q0 n) : IT M N T q0 n (M 63) := fun x x0 x1 => by
  have r := h.1 x x0 x1
  refine ⟨r.2.2.1.2, fun s _ hs => hs, fun s s0 hs P C hc hp => hc.2.2.1 (q0 + x) s (by omega) (by omega) hp s0 (by rw [← r.2.2.1.1]; exact hs)⟩
theorem w31 [Inhabited gh_] (h : RWS M N T q0 n) : (M 123 T).toNat ≤ 31 := by have := h.2.2.1; omega
theorem IT_s [Inhabited gh_] (h : RWS M N T q0 n) (hf : IT M N T q0 n f) (hx : 0 ≤ x ∧ x < (n : Int)) (hy : 0 ≤ y ∧ y < (n : Int)) (hj : an_ (M 65 x) (M 64 y) ≠ 0) : IT M N T q0 n (su_ f x (or_ (f x) (f y))) := fun z z0 z1 => by
  by_cases c : z = x
  · rw [su_at, if_pos c, c]
    have fx := hf x hx.1 hx.2
    have fy := hf y hy.1 hy.2
    have ob := or_b2 (m := (M 123 T).toNat) (w31 h) fx.1 fy.1
    refine ⟨ob.1, fun s s0 hs => (ob.2 s s0).2 (.inl (fx.2.1 s s0 hs)), fun s s0 hs P C hc hp => ?_⟩
    rcases (ob.2 s s0).1 hs with g | g
    · exact fx.2.2 s s0 g P C hc hp
    · have rx := h.1 x hx.1 hx.2
      have ry := h.1 y hy.1 hy.2
      have ab := an_bt (x := M 65 x) (y := M 64 y) ⟨rx.2.2.2.1.2.1, by have := rx.2.2.2.1.2.2; omega⟩ ⟨ry.2.2.2.2.1.1, by have := ry.2.2.2.2.1.2; omega⟩
      obtain ⟨l, l0, hl⟩ := (bt_ne ab.1.1).1 hj
      have b2 := (ab.2 l l0).1 hl
      have w10 : wM 10 = 1024 := by decide
      have r64 := ry.2.2.2.2.1
      have l10 : l < 10 := bt_wM (x := M 64 y) (c := 10) (s := l) ⟨r64.1, by rw [w10]; exact r64.2⟩ (by decide) l0 b2.2
      have k := (ry.2.2.2.2.2 l l0 l10).1 b2.2
      have p2 := hc.2.1 (q0 + x) l (by (clear h hf hy hj z0 z1 fx fy ob s0 hs hc hp g rx ry ab l0 hl b2 w10 r64 l10 k; omega)) (by (clear h hf hy hj z0 z1 fx fy ob s0 hs hc hp g rx ry ab l0 hl b2 w10 r64 l10 k; lia)) hp l0 (by have := h.2.2.2; (clear h hf hx hy hj z0 z1 c fx fy ob s0 hs hc hp g rx ry ab l0 hl b2 w10 r64 l10; omega)) (by rw [← rx.2.2.2.1.1]; exact b2.1)
      rw [k.2.2] at p2
      exact fy.2.2 s s0 g P C hc p2
  · rw [su_at, if_neg c]; exact hf z z0 z1
theorem c0_b [Inhabited gh_] (h : RWS M N T q0 n) (hf : IT M N T q0 n f) : ∀ k : Nat, k ≤ n → (0 ≤ c0_ M f k ∧ c0_ M f k < wM (M 123 T)) ∧ (∀ s, 0 ≤ s → (bt_ (c0_ M f k) s ↔ ∃ x, (0 ≤ x ∧ x < (k : Int)) ∧ M 66 x = -1 ∧ bt_ (f x) s))
  | 0, _ => ⟨⟨Int.le_refl _, wM_0⟩, fun s s0 => ⟨fun h => absurd h bt_0, fun ⟨x, hx, _⟩ => by (clear h hf s0 hx; omega)⟩⟩
  | k + 1, hk => by
    obtain ⟨i1, i2⟩ := c0_b h hf k (by (clear h hf; lia))
    have fk := hf (k : Int) (by omega) (by omega)
    have rg : 0 ≤ (if M 66 (k : Int) = -1 then f (k : Int) else 0) ∧ (if M 66 (k : Int) = -1 then f (k : Int) else 0) < wM (M 123 T) := by
      by_cases c : M 66 (k : Int) = -1
      · rw [if_pos c]; exact fk.1
      · rw [if_neg c]; exact ⟨Int.le_refl _, wM_0⟩
    have ob := or_b2 (m := (M 123 T).toNat) (w31 h) i1 rg
    refine ⟨ob.1, fun s s0 => ?_⟩
    show bt_ (or_ (c0_ M f k) (if M 66 (k : Int) = -1 then f (k : Int) else 0)) s ↔ _
    rw [ob.2 s s0, i2 s s0]
    constructor
    · rintro (⟨x, hx, e⟩ | g)
      · exact ⟨x, by (clear h hf hk i1 i2 fk rg ob s0 e; omega), e⟩
      · by_cases c : M 66 (k : Int) = -1
        · rw [if_pos c] at g; exact ⟨k, by (clear h hf hk i1 i2 fk rg ob s0 g c; lia), c, g⟩
        · rw [if_neg c] at g; exact absurd g bt_0
    · rintro ⟨x, hx, e, g⟩
      by_cases c : x = (k : Int)
      · right
        rw [c] at e g
        rw [if_pos e]; exact g
      · exact .inl ⟨x, by (clear h hf hk i1 i2 fk rg ob s0 e g; omega), e, g⟩
theorem IS_0 [Inhabited gh_] (h : RWS M N T q0 n) (hf : IT M N T q0 n f) : IS M N T q0 n f (c0_ M f n) := by
  obtain ⟨i1, i2⟩ := c0_b h hf n (Nat.le_refl _)
  refine ⟨i1, fun x s x0 x1 e s0 g => (i2 s s0).2 ⟨x, ⟨x0, x1⟩, e, g⟩, fun s s0 g P C hc => ?_⟩
  obtain ⟨x, hx, e, g⟩ := (i2 s s0).1 g
  have r := h.1 x hx.1 hx.2
  have st : N 215 (q0 + x) ≠ 0 := by
    rcases r.2.1 with z | z
    · exact z.2
    · exact absurd e z.1
  exact (hf x hx.1 hx.2).2.2 s s0 g P C hc (hc.1 (q0 + x) (by omega) (by omega) st)
theorem st_s [Inhabited gh_] (h : RWS M N T q0 n) (hx : 0 ≤ x ∧ x < (n : Int)) (h66 : M 66 x ≠ -1) : N 215 (q0 + x) = 0 ∧ MB (M 123 T) (M 66 x) (N 212 (q0 + x)) := by
  rcases (h.1 x hx.1 hx.2).2.1 with z | z
  · exact absurd z.1 h66
  · exact z.2
theorem IS_s [Inhabited gh_] (h : RWS M N T q0 n) (hf : IT M N T q0 n f) (hc : IS M N T q0 n f c) (hx : 0 ≤ x ∧ x < (n : Int)) (h66 : M 66 x ≠ -1) (ha : an_ (M 66 x) c ≠ 0) : IS M N T q0 n f (or_ c (f x)) := by
  have fx := hf x hx.1 hx.2
  have ob := or_b2 (m := (M 123 T).toNat) (w31 h) hc.1 fx.1
  refine ⟨ob.1, fun y s y0 y1 e s0 g => (ob.2 s s0).2 (.inl (hc.2.1 y s y0 y1 e s0 g)), fun s s0 g P C hC => ?_⟩
  rcases (ob.2 s s0).1 g with g | g
  · exact hc.2.2 s s0 g P C hC
  · obtain ⟨z, mb⟩ := st_s h hx h66
    have w12 := wM_12 h.2.2.1.2
    have ab := an_bt (x := M 66 x) (y := c) ⟨mb.1.1, by have := mb.1.2; (clear h hf hc hx h66 ha fx ob s0 hC g z mb w12; omega)⟩ ⟨hc.1.1, by have := hc.1.2; omega⟩
    obtain ⟨l, l0, hl⟩ := (bt_ne ab.1.1).1 ha
    have b2 := (ab.2 l l0).1 hl
    have q := ((mb.2.2 l l0).1 b2.1).1
    exact fx.2.2 s s0 g P C hC (hC.2.2.2 (q0 + x) l (by (clear h hf hc h66 ha fx ob s0 hC g z mb w12 ab l0 hl b2 q; omega)) (by omega) z l0 q (hc.2.2 l l0 b2.2 P C hC))
/-- the states come to -/
theorem CM_ok [Inhabited gh_] (h : RWS M N T q0 n) (hf : IT M N T q0 n f) (hcl : CLp M f n (n : Int) 0) (hc : IS M N T q0 n f c) (hc2 : c = -1 ∨ CLc M f n c n) (hs : 0 ≤ s) : bt_ c s ↔ CMS N T q0 (q0 + n) s := by
  refine ⟨hc.2.2 s hs, fun hC => ?_⟩
  have hc3 : CLc M f n c n := by
    rcases hc2 with e | e
    · have := hc.1.1; omega
    · exact e
  have w12 := wM_12 h.2.2.1.2
  have sub : ∀ {u v : Int}, (0 ≤ u ∧ u < wM (M 123 T)) → (0 ≤ v ∧ v < wM (M 123 T)) → or_ u v = u → ∀ s, 0 ≤ s → bt_ v s → bt_ u s := fun hu hv e s s0 g => by
    have ob := or_b2 (m := (M 123 T).toNat) (w31 h) hu hv
    rw [← e]; exact (ob.2 s s0).2 (.inr g)
  refine hC (fun me => (q0 ≤ me ∧ me < q0 + n) ∧ ∀ s, 0 ≤ s → bt_ (f (me - q0)) s → bt_ c s) (fun s => bt_ c s) ⟨fun me m0 m1 st => ?_, fun me l m0 m1 hp l0 l1 jb => ?_, fun me s m0 m1 hp s0 g => ?_, fun me s m0 m1 st s0 g cs => ?_⟩
  · refine ⟨⟨m0, m1⟩, fun s s0 g => hc.2.1 (me - q0) s (by (clear h hf hcl hc hc2 hs hC hc3 w12 sub m1 st s0 g; lia)) (by omega) ?_ s0 g⟩
    rcases (h.1 (me - q0) (by omega) (by omega)).2.1 with z | z
    · exact z.1
    · have := z.2.1
      rw [show q0 + (me - q0) = me by (clear h hf hcl hc hc2 hs hC hc3 w12 sub m0 m1 st s0 g z this; lia)] at this
      exact absurd this st
  · obtain ⟨k1, k2, k3⟩ := h.2.1 l l0 l1
    have l10 : l < 10 := by have := h.2.2.2; (clear h hf hcl hc hc2 hs hC hc3 w12 sub m0 m1 hp l0 jb k1 k2 k3; omega)
    have rx := h.1 (me - q0) (by (clear h hf hcl hc hc2 hs hC hc3 w12 sub m1 hp l0 l1 jb k1 k2 k3 l10; omega)) (by (clear h hf hcl hc hc2 hs hC hc3 w12 sub m0 hp l0 l1 jb k1 k2 k3 l10; omega))
    rw [show q0 + (me - q0) = me by omega] at rx
    generalize ey : N 189 (10 * T + l) - q0 = y
    have y0 : 0 ≤ y ∧ y < (n : Int) := by (clear h hf hcl hc hc2 hs hC hc3 w12 sub m0 m1 hp l0 l1 jb k1 l10 rx; omega)
    have ry := h.1 y y0.1 y0.2
    have lb : bt_ (M 64 y) l := (ry.2.2.2.2.2 l l0 l10).2 ⟨l0, k1, by (clear h hf hcl hc hc2 hs hC hc3 w12 sub m0 m1 hp l0 l1 jb k1 k2 k3 l10 rx y0 ry; lia)⟩
    have jb' : bt_ (M 65 (me - q0)) l := by rw [rx.2.2.2.1.1]; exact jb
    have ab := an_bt (x := M 65 (me - q0)) (y := M 64 y) ⟨rx.2.2.2.1.2.1, by have := rx.2.2.2.1.2.2; omega⟩ ⟨ry.2.2.2.2.1.1, by have := ry.2.2.2.2.1.2; omega⟩
    have hj : an_ (M 65 (me - q0)) (M 64 y) ≠ 0 := (bt_ne ab.1.1).2 ⟨l, l0, (ab.2 l l0).2 ⟨jb', lb⟩⟩
    have e := hcl (me - q0) y (by omega) y0.1 y0.2 (.inl (by (clear h hf hcl hc hc2 hs hC hc3 w12 sub m0 hp l0 l1 jb k1 k2 k3 l10 rx y0 ry lb jb' ab hj; lia))) hj
    refine ⟨⟨k2, k3⟩, fun s s0 g => hp.2 s s0 ?_⟩
    exact sub (hf _ (by (clear h hf hcl hc hc2 hs hC hc3 w12 sub m1 hp l0 l1 jb k1 k2 k3 l10 rx y0 ry lb jb' ab hj e s0 g; lia)) (by omega)).1 (hf y y0.1 y0.2).1 e s s0 g
  · have rx := h.1 (me - q0) (by (clear h hf hcl hc hc2 hs hC hc3 w12 sub m1 hp s0 g; omega)) (by omega)
    rw [show q0 + (me - q0) = me by omega] at rx
    exact hp.2 s s0 ((hf (me - q0) (by omega) (by omega)).2.1 s s0 (by rw [rx.2.2.1.1]; exact g))
  · have n66 : M 66 (me - q0) ≠ -1 := by
      rcases (h.1 (me - q0) (by omega) (by omega)).2.1 with z | z
      · rw [show q0 + (me - q0) = me by omega] at z; exact absurd st z.2
      · exact z.1
    have sb := st_s h (x := me - q0) ⟨by omega, by omega⟩ n66
    rw [show q0 + (me - q0) = me by omega] at sb
    have mb := sb.2
    have lt := bt_wM hc.1 h.2.2.1.1 s0 cs
    have ab := an_bt (x := M 66 (me - q0)) (y := c) ⟨mb.1.1, by have := mb.1.2; (clear h hf hcl hc hc2 hs hC hc3 w12 sub m0 m1 st s0 g cs n66 sb mb lt; omega)⟩ ⟨hc.1.1, by have := hc.1.2; omega⟩
    have ha : an_ (M 66 (me - q0)) c ≠ 0 := (bt_ne ab.1.1).2 ⟨s, s0, (ab.2 s s0).2 ⟨(mb.2.2 s s0).2 ⟨g, lt⟩, cs⟩⟩
    have e := hc3 (me - q0) (by omega) (by omega) (by omega) n66 ha
    exact ⟨⟨m0, m1⟩, fun s s0 g => sub hc.1 (hf _ (by (clear h hf hcl hc hc2 hs hC hc3 w12 sub m1 st cs n66 sb mb lt ab ha e s0 g; omega)) (by omega)).1 e s s0 g⟩
end CL
end T263_cl
section T264_pw
/-! a process whole (X 126 | Q 252) -/
section SYh
variable {b F F1 : Int} {M N M1 N1 N' : mm_} {a a1 T t ns nr np : Int}
theorem SY_63 [Inhabited gh_] (h : SY0 b F M N a) (hE : ER b F M1 N1 a1 0) (ha : a ≤ a1) (hx : ∀ r : Nat, r ≠ 1 → r ≠ 63 → r ≠ 67 → r ≠ 68 → M1 r = M r) (h1 : ∀ i : Int, i ∈ [2, 21, 23] → M1 1 i = M 1 i) (h7 : M1 1 7 + 8 * (1201 - a1) ≤ 1000000000 - (gg_ : Int)) (hq : ∀ r : Nat, r ≠ 6 → N1 r = N r) (h6 : ∀ i : Int, i ∈ [17, 18, 19, 58, 62, 63, 75, 76, 90, 104] → N1 6 i = N 6 i) : SY0 b F M1 N1 a1 := by
  obtain ⟨⟨s1, s2, s3⟩, ⟨g1, g2, g3, g4, g5⟩, ty, ⟨tp, gl⟩, ⟨⟨c1, c2, c3⟩, c4, c5, c6, c7, c8, c9, c10⟩, sr⟩ := h
  have e5 := hx 5 (by decide) (by decide) (by decide) (by decide)
  have e70 := hx 70 (by decide) (by decide) (by decide) (by decide)
  have e71 := hx 71 (by decide) (by decide) (by decide) (by decide)
  have e151 := hq 151 (by decide)
  have nm : ∀ u, nm9_ M u → nm9_ M1 u := fun u hu => nm9_r hu e70
  have tpe : tpl N1 = tpl N := by funext y; unfold tpl; rw [h6 19 (by decide), hq 154 (by decide)]
  have glm : ∀ u, GLM M1 u ↔ GLM M u := fun u => by
    unfold GLM
    rw [e5, hx 56 (by decide) (by decide) (by decide) (by decide), hx 57 (by decide) (by decide) (by decide) (by decide), hx 58 (by decide) (by decide) (by decide) (by decide)]
  obtain ⟨⟨a1', a1''⟩, a2⟩ := g1
  obtain ⟨⟨a3, a3'⟩, a4, a5⟩ := g2
  obtain ⟨a6, a6'⟩ := g3
  obtain ⟨u1, u3, u4, u5⟩ := g5
  refine ⟨⟨Tks_r s1 (fun r hr => hx r (fun e => by rw [e] at hr; revert hr; decide) (fun e => by rw [e] at hr; revert hr; decide) (fun e => by rw [e] at hr; revert hr; decide) (fun e => by rw [e] at hr; revert hr; decide)) (fun r hr => hq r (fun e => by rw [e] at hr; revert hr; decide)), hE, by rw [h1 2 (by decide)]; exact s3⟩, ⟨?_, ?_, ?_, fun hb => ?_, ?_⟩, fun T T0 T1 => ?_, ⟨by rw [e5, hx 58 (by decide) (by decide) (by decide) (by decide)]; exact tp, fun hb u hu => by have := gl hb u ((glm u).1 hu); (clear hE hx h1 h7 hq h6 s1 s2 s3 g4 ty tp gl sr c1 c2 c3 c4 c5 c6 c7 c8 c9 c10 e5 e70 e71 e151 nm tpe glm a2 a1' a1'' a3 a3' a4 a5 a6 a6' u1 u3 u4 u5 hb hu; omega)⟩, ⟨⟨by rw [h6 75 (by decide)]; (clear hE hx h1 h7 hq h6 s1 s2 s3 g4 ty tp gl sr c2 c3 c4 c5 c6 c7 c8 c9 c10 e5 e70 e71 e151 nm tpe glm a2 a1' a1'' a3 a3' a4 a5 a6 a6' u1 u3 u4 u5; omega), by rw [h6 104 (by decide)]; (clear hE hx h1 h7 hq h6 s1 s2 s3 g4 ty tp gl sr c1 c3 c4 c5 c6 c7 c8 c9 c10 e5 e70 e71 e151 nm tpe glm a2 a1' a1'' a3 a3' a4 a5 a6 a6' u1 u3 u4 u5; lia), by rw [e5]; (clear hE hx h1 h7 hq h6 s1 s2 s3 g4 ty tp gl sr c1 c2 c4 c5 c6 c7 c8 c9 c10 e5 e70 e71 e151 nm tpe glm a2 a1' a1'' a3 a3' a4 a5 a6 a6' u1 u3 u4 u5; lia)⟩, by rw [h6 76 (by decide)]; (clear hE hx h1 h7 hq h6 s1 s2 s3 g4 ty tp gl sr c1 c2 c3 c5 c6 c7 c8 c9 c10 e5 e70 e71 e151 nm tpe glm a2 a1' a1'' a3 a3' a4 a5 a6 a6' u1 u3 u4 u5; lia), h7, by rw [h6 90 (by decide)]; (clear hE hx h1 h7 hq h6 s1 s2 s3 g4 ty tp gl sr c1 c2 c3 c4 c5 c7 c8 c9 c10 e5 e70 e71 e151 nm tpe glm a2 a1' a1'' a3 a3' a4 a5 a6 a6' u1 u3 u4 u5; lia), by rw [h1 21 (by decide), h1 23 (by decide)]; exact c7, by rw [e5]; (clear hE hx h1 h7 hq h6 s1 s2 s3 g4 ty tp gl sr c1 c2 c3 c4 c5 c6 c7 c9 c10 e5 e70 e71 e151 nm tpe glm a2 a1' a1'' a3 a3' a4 a5 a6 a6' u1 u3 u4 u5; omega), by rw [h6 62 (by decide)]; (clear hE hx h1 h7 hq h6 s1 s2 s3 g4 ty tp gl sr c1 c2 c3 c4 c5 c6 c7 c8 c10 e5 e70 e71 e151 nm tpe glm a2 a1' a1'' a3 a3' a4 a5 a6 a6' u1 u3 u4 u5; lia), by rw [h6 63 (by decide)]; (clear hE hx h1 h7 hq h6 s1 s2 s3 g4 ty tp gl sr c1 c2 c3 c4 c5 c6 c7 c8 c9 e5 e70 e71 e151 nm tpe glm a2 a1' a1'' a3 a3' a4 a5 a6 a6' u1 u3 u4 u5; lia)⟩, fun hb => ?_⟩
  · unfold SGT sgl9
    rw [e5, h6 17 (by decide), hx 56 (by decide) (by decide) (by decide) (by decide), hq 152 (by decide), e151, hx 112 (by decide) (by decide) (by decide) (by decide), hx 113 (by decide) (by decide) (by decide) (by decide), hq 156 (by decide), hq 157 (by decide)]
    exact ⟨⟨a1', fun k k0 k1 => ⟨nm _ (a1'' k k0 k1).1, (a1'' k k0 k1).2⟩⟩, a2⟩
  · unfold PRT tpl9
    rw [e5, h6 19 (by decide), hx 58 (by decide) (by decide) (by decide) (by decide), hq 154 (by decide), e151, hq 170 (by decide), hq 182 (by decide), hq 183 (by decide), hx 122 (by decide) (by decide) (by decide) (by decide), hx 130 (by decide) (by decide) (by decide) (by decide)]
    exact ⟨⟨a3, fun k k0 k1 => ⟨nm _ (a3' k k0 k1).1, (a3' k k0 k1).2⟩⟩, a4, a5⟩
  · unfold rtl9
    rw [e5, h6 18 (by decide), hx 57 (by decide) (by decide) (by decide) (by decide), hq 153 (by decide), e151]
    exact ⟨a6, fun k k0 k1 => ⟨nm _ (a6' k k0 k1).1, (a6' k k0 k1).2⟩⟩
  · unfold RT1
    rw [e5, hx 114 (by decide) (by decide) (by decide) (by decide), hx 119 (by decide) (by decide) (by decide) (by decide), hq 158 (by decide), hq 164 (by decide), tpe]
    exact g4 hb
  · unfold GLT
    rw [h6 58 (by decide), e5, hq 190 (by decide), hq 191 (by decide), e151, e71, hq 155 (by decide), hx 56 (by decide) (by decide) (by decide) (by decide)]
    refine ⟨u1, fun i i0 i1 => ?_, fun u v hu hv => u4 u v ((glm u).1 hu) ((glm v).1 hv), u5.1, fun u hu => u5.2 u ((glm u).1 hu)⟩
    obtain ⟨u, hu, w⟩ := u3 i i0 i1
    exact ⟨u, ⟨nm _ hu.1, (glm u).2 hu.2⟩, w⟩
  · rw [e5] at T1
    exact TYP_c (ty T T0 T1) (ROW_e (fun r hr => hx r (fun e => by rw [e] at hr; revert hr; decide) (fun e => by rw [e] at hr; revert hr; decide) (fun e => by rw [e] at hr; revert hr; decide) (fun e => by rw [e] at hr; revert hr; decide)) (fun r hr => hq r (fun e => by rw [e] at hr; revert hr; decide))) e70 e71 e151 (Int.le_refl _) ha
  · obtain ⟨⟨xs, hs⟩, hl⟩ := sr hb
    refine ⟨⟨xs, SRW_c hs (by rw [e5]) (hx _ (by decide) (by decide) (by decide) (by decide)) (hx _ (by decide) (by decide) (by decide) (by decide)) (hx _ (by decide) (by decide) (by decide) (by decide)) (hx _ (by decide) (by decide) (by decide) (by decide)) (hx _ (by decide) (by decide) (by decide) (by decide)) (h6 _ (by decide)) (h6 _ (by decide)) (hq _ (by decide)) (hq _ (by decide)) (hq _ (by decide)) (hq _ (by decide)) (hq _ (by decide)) (hq _ (by decide))⟩, ?_⟩
    rw [h6 62 (by decide), h6 63 (by decide), hq 199 (by decide)]; exact hl
theorem cmX_r [Inhabited gh_] {f : Int → Int} {c j : Int} {r : Nat} (h : r ≠ 63) (h1 : r ≠ 67) (h2 : r ≠ 68) : cmX M f c j r = M r := by unfold cmX; rw [up_ne h2, up_ne h1, wr_ne h]
theorem SYS_cm [Inhabited gh_] {f : Int → Int} {c j : Int} (h : SYS b F M N a ns nr np) : SYS b F (cmX M f c j) N a ns nr np := by
  obtain ⟨h1, h2, h3⟩ := h
  have e1 : cmX M f c j 1 = M 1 := cmX_r (by decide) (by decide) (by decide)
  have e5 : cmX M f c j 5 = M 5 := cmX_r (by decide) (by decide) (by decide)
  refine ⟨SY_63 h1 (ER_X h1.1.2.1 (cmX_r (by decide) (by decide) (by decide)) e1 e5) (Int.le_refl _) (fun r _ h h' h'' => cmX_r h h' h'') (fun i _ => by rw [e1]) (by rw [e1]; exact h1.2.2.2.2.1.2.2.1) (fun _ _ => rfl) (fun _ _ => rfl), by rw [e1, e5]; exact h2, fun T T0 T1 => ?_⟩
  rw [e5] at T1
  exact CNT_c (h3 T T0 T1) (ROW_e (fun r hr => cmX_r (fun e => by rw [e] at hr; revert hr; decide) (fun e => by rw [e] at hr; revert hr; decide) (fun e => by rw [e] at hr; revert hr; decide)) (fun _ _ => rfl))
end SYh
end T264_pw
section T265_pw
/-! a process whole, pass 2: its rows -/
section PWr
variable {dq : Nat} {b F F1 F' : Int} {ns nr np : Int} {Kv G : mm_ → Prop} {Qt Qtq : qt_} {M N M' N' : mm_} {a a' : Int} {n : Nat}
/-- what is known of a process's states and labels, in pass 2 -/
def CMD (M N : mm_) (T q0 : Int) (n : Nat) (c j : Int) : Prop := (∀ s, 0 ≤ s → (bt_ c s ↔ CMS N T q0 (q0 + n) s)) ∧ (0 ≤ c ∧ c < wM (M 123 T)) ∧ RWS M N T q0 n ∧ j = j0_ M n
theorem LMT_128 [Inhabited gh_] {M M1 : mm_} (h : LMT M1 = LMT M) (e : M1 1 18 = M 1 18) (h0 : 0 ≤ M 128 (M 1 18)) (h1 : 0 ≤ M1 128 (M 1 18)) : M1 128 (M 1 18) = M 128 (M 1 18) := by
  have g : ∀ j t, LMT M1 j t = LMT M j t := fun j t => by rw [h]
  unfold LMT at g
  rw [e] at g
  by_cases c : M1 128 (M 1 18) < M 128 (M 1 18)
  · exfalso
    have q := g (M1 128 (M 1 18)) (M 62 (10 * M 1 18 + M1 128 (M 1 18)))
    rw [decide_eq_false (by omega), decide_eq_true (by exact ⟨h1, c, rfl⟩)] at q
    exact absurd q (by decide)
  · by_cases c2 : M 128 (M 1 18) < M1 128 (M 1 18)
    · exfalso
      have q := g (M 128 (M 1 18)) (M1 62 (10 * M 1 18 + M 128 (M 1 18)))
      rw [decide_eq_true (by exact ⟨h0, c2, rfl⟩), decide_eq_false (by omega)] at q
      exact absurd q (by decide)
    · omega
theorem PRO_RWS [Inhabited gh_] (h : SYS b F M N a ns nr np) (hP : PRO b F F' M N M' N' np a a') (hb : b = 1) (hl : M' 1 19 = M 128 np) (hz : N' 6 13 = 0) (hn : M' 1 29 = (n : Int)) : RWS M' N' np (N 6 76) n ∧ N' 6 76 = N 6 76 + n ∧ N 6 13 = 0 := by
  obtain ⟨F1, Mz, Nz, Ma, Na, Z, pz, k58, k52, ct, Ha, Mh, Nh, ah, c, Fh, Hh, ph, cb, cc, n170, S', P', f', at'⟩ := hP
  obtain ⟨e18, e19, e29, e33, e61⟩ := hd_18 ct
  rw [e18] at ph
  have h18 : Mh 1 18 = np := by rw [ph.1.2.1 18 (by decide), up_ne (by decide)]; exact e18
  have m18 : M' 1 18 = np := (sB_18 f').trans h18
  have b18 : sBX Mh 1 18 = np := by rw [sBX_1 (by decide)]; exact h18
  have b19 : sBX Mh 1 19 = 0 := by rw [sBX_1 (by decide), ph.1.2.1 19 (by decide), up_ne (by decide)]; exact e19
  have b29 : sBX Mh 1 29 = 0 := by rw [sBX_1 (by decide), ph.1.2.1 29 (by decide), up_ne (by decide)]; exact e29
  have q76 : sBQ Mh Nh 6 76 = N 6 76 := by
    rw [sBQ_6 (by decide), ph.1.2.2.2 76 (by decide), ct.2.2.2.2.2.1 76 (by decide) (by decide) (by decide), up_of2 (by decide), pz.2.1.2.2 76 (by decide)]
  obtain ⟨o, d29, nw⟩ := P' hb
  obtain ⟨z1, w1, w2, w3, w4, w5⟩ := nw hz
  rw [b29, q76] at d29
  rw [b18, b19] at w2 w3
  rw [b29, q76] at w3
  rw [q76] at w2
  have n0 : N 6 13 = 0 := by
    rw [sBQ_6 (by decide)] at z1
    have z2 := (ph.2.2.1 hb).2.2 z1
    have z3 := ct.2.2.2.2.2.2.2 hb z2
    rw [up_of2 (by decide)] at z3
    exact (pz.2.2.1 hb).2.2.2 z3
  have l9 := S'.1.2.2.1.1.1
  rw [m18] at l9
  have m128 : M' 128 np = M 128 np := by
    have z := f'.2.2.1.2.2.2 hb
    have l0 := Hh.1.1.2.2.1.1.1
    rw [h18] at l0
    have e := LMT_128 z (m18.trans b18.symm) (by rw [b18, sBX_r (by decide) (by decide)]; exact l0.1) (by rw [b18]; exact l9.1)
    rw [b18] at e
    rw [e, sBX_r (by decide) (by decide), ph.1.1 128 (by decide) (by decide), up_ne (by decide), ct.1 128 (by decide) (by decide) (by decide), sT_r (by decide), (pz.2.2.1 hb).1 128 (by decide)]
  have s9 := S'.1.2.2.2.1.1
  rw [m18] at s9
  refine ⟨⟨fun x x0 x1 => ?_, fun l l0 l1 => ?_, ⟨s9.1, s9.2.1⟩, ?_⟩, by (clear h hb hl hz Z pz k58 k52 ct Ha Hh ph cb cc n170 S' P' f' at' e18 e19 e29 e33 e61 h18 m18 b18 b19 b29 q76 o nw z1 w1 w2 w3 w4 w5 n0 l9 m128 s9; omega), n0⟩
  · have := w3 x x0 (by (clear h hb hl hz Z pz k58 k52 ct Ha Hh ph cb cc n170 S' P' f' at' e18 e19 e29 e33 e61 h18 m18 b18 b19 b29 q76 o nw z1 w1 w2 w3 w4 w5 n0 l9 m128 s9 x0; omega))
    rw [show x - 0 = x by (clear h hb hl hz hn Z pz k58 k52 ct Ha Hh ph cb cc n170 S' P' f' at' e18 e19 e29 e33 e61 h18 m18 b18 b19 b29 q76 o d29 nw z1 w1 w2 w3 w4 w5 n0 l9 m128 s9 x0 x1 this; lia)] at this; exact this
  · have := (w2 l l0 (by (clear h hb hz hn Z pz k58 k52 ct Ha Hh ph cb cc n170 S' P' f' at' e18 e19 e29 e33 e61 h18 m18 b18 b19 b29 q76 o d29 nw z1 w1 w2 w3 w4 w5 n0 s9 l0; omega))).2
    (clear h hb hz Z pz k58 k52 ct Ha Hh ph cb cc n170 S' P' f' at' e18 e19 e29 e33 e61 h18 m18 b18 b19 b29 q76 o nw z1 w1 w2 w3 w4 w5 n0 s9 l0; omega)
  · (clear h hb hz hn Z pz k58 k52 ct Ha Hh ph cb cc n170 S' P' f' at' e18 e19 e29 e33 e61 h18 m18 b18 b19 b29 q76 o d29 nw z1 w1 w2 w3 w4 w5 n0 s9; omega)
end PWr
end T265_pw
section T266_pw
/-! a process whole (X 126 | Q 252) -/
section PWw
variable {dq : Nat} {b F F1 F' : Int} {ns nr np : Int} {Kv G : mm_ → Prop} {Qt Qtq : qt_} {M N M' N' : mm_} {a a' : Int} {n : Nat}
theorem y_126 [Inhabited gh_] (hgh : GHP) (h : SYS b F M N a ns nr np) (hk : M 70 a = 2) (hS : b = 1 → prcS (M 70) (M 73) (TMT M np) (DMs M np) (M 122 np) (LMs M np) (SMs N np) (M 128 np) a ≠ none)
    (hK : ∀ F' M' N' Me a', SYS b F' Me N' a' ns nr (np + 1) → PRO b F F' M N M' N' np a a' → PCG b F F' M N M' N' np a → a + 10 ≤ a' → (b = 0 → Me = M') → (b = 1 → ∃ f c j, Me = cmX M' f c j ∧ (N' 6 13 = 0 → ∃ n : Nat, CMD M' N' np (N 6 76) n c j ∧ N' 6 76 = N 6 76 + n)) → (∀ tm dm pm lm sm lb, POK b tm dm pm lm sm lb np M N M' N' → prcS (M 70) (M 73) tm dm pm lm sm lb a = some a') → (∀ (G : mm_ → Prop) (Qtq : qt_), G N' → qPC dq np N G Qtq) → Kv Me)
    (hQ : b = 0 → ∀ Mx', XPb M Mx' → (∀ (G : mm_ → Prop) (Qtq : qt_), (∀ M', SQp Mx' N M' → G M') → qPC dq np N G Qtq) → Qt 8 Mx') :
    Tr_ wd0 pg0 131 126 [.inr (.inr 1)] M (rv_ Kv) Qt := by
  refine t_126 fun V hV hW => y_prc (dq := dq) hgh hV hW h hk hS (fun F' M' N' a' P' G' ha' hl sy hq => ?_) hQ
  have S' := PRO_SYS h P' (by omega)
  have e8 : M' 1 8 = b := S'.1.1.2.1.2.2.2.2.2.2.1
  intro _
  rw [e8]
  rcases bl01 S'.1.1.2.1 with hb | hb
  · rw [if_pos hb]
    exact rv_i (hK F' M' N' M' a' S' P' G' ha' (fun _ => rfl) (fun hb1 => by omega) sy hq)
  · rw [if_neg (by omega)]
    have b29 : 0 ≤ M' 1 29 ∧ M' 1 29 ≤ 600 := by
      obtain ⟨F1, Mz, Nz, Ma, Na, Z, pz, k58, k52, ct, Ha, Mh, Nh, ah, c, Fh, Hh, ph, cb, cc, n170, S9, P9, f9, at9⟩ := P'
      have u := S9.1.2.2.2.2.1.1
      have := ER_a (TS_E S9.1)
      (clear hgh h hk hS hK hQ hV hW G' ha' hl sy hq S' e8 hb Z pz k58 k52 ct Ha Hh ph cb cc n170 S9 P9 f9 at9; omega)
    have m18 : M' 1 18 = np := by
      obtain ⟨F1, Mz, Nz, Ma, Na, Z, pz, k58, k52, ct, Ha, P9⟩ := P'
      rw [PBD_18 P9]; exact (hd_18 ct).1
    have n6 : 0 ≤ M' 1 18 ∧ M' 1 18 < 6 := by
      obtain ⟨F1, Mz, Nz, Ma, Na, Z, pz, k58, k52, ct, Ha, Mh, Nh, ah, c, Fh, Hh, ph, cb, cc, n170, S9, P9, f9, at9⟩ := P'
      exact S9.1.1.2.1.2.2.imp id And.left
    obtain ⟨n, hn⟩ := Int.eq_ofNat_of_zero_le b29.1
    refine x_178 (n := n) (I := fun f => N' 6 13 = 0 → IT M' N' np (N 6 76) n f) (ICf := fun f c => N' 6 13 = 0 → IS M' N' np (N 6 76) n f c) b29 n6 hn (fun hz => ?_) (fun f x y hf hx hy hj hz => ?_) (fun f hf hz => ?_) (fun f c x hf hc hx h1 h2 hz => ?_) (fun f c hf hcl hc hc2 => ?_)
    · exact IT_0 (PRO_RWS h P' hb (hl hb) hz hn).1
    · exact IT_s (PRO_RWS h P' hb (hl hb) hz hn).1 (hf hz) hx hy hj
    · exact IS_0 (PRO_RWS h P' hb (hl hb) hz hn).1 (hf hz)
    · exact IS_s (PRO_RWS h P' hb (hl hb) hz hn).1 (hf hz) (hc hz) hx h1 h2
    · refine rv_i (hK F' M' N' (cmX M' f c (j0_ M' n)) a' (SYS_cm S') P' G' ha' (fun hb0 => by omega) (fun _ => ⟨f, c, j0_ M' n, rfl, fun hz => ?_⟩) sy hq)
      have R := PRO_RWS h P' hb (hl hb) hz hn
      exact ⟨n, ⟨fun s s0 => CM_ok R.1 (hf hz) hcl (hc hz) hc2 s0, (hc hz).1, R.1, rfl⟩, R.2.1⟩
end PWw
end T266_pw
section T267_sg
/-! a signal more (pass 1) -/
def sx1_ (M : mm_) (t : Int) : mm_ := up_ (up_ M 56 (M 5 0) t) 5 0 (M 5 0 + 1)
def sq_ (N : mm_) (t : Int) : mm_ := up_ (up_ (up_ (up_ N 152 (N 6 17) (N 151 t)) 155 (N 6 17) (N 150 t)) 156 (N 6 17) 0) 6 17 (N 6 17 + 1)
section SGs
variable {b F F1 : Int} {M N M1 N1 : mm_} {a a1 T t : Int}
theorem sx1_r [Inhabited gh_] {r : Nat} (h : r ≠ 5) (h1 : r ≠ 56) : sx1_ M t r = M r := by unfold sx1_; rw [up_ne h, up_ne h1]
theorem sx1_k [Inhabited gh_] : sx1_ M t 5 0 = M 5 0 + 1 ∧ sx1_ M t 56 (M 5 0) = t := by unfold sx1_; exact ⟨up_at, by rw [up_ne (by decide), up_at]⟩
theorem sx1_5 [Inhabited gh_] {i : Int} (h : i ≠ 0) : sx1_ M t 5 i = M 5 i := by unfold sx1_; rw [up_of2 h, up_ne (by decide)]
theorem sx1_o [Inhabited gh_] {i : Int} (h : i ≠ M 5 0) : sx1_ M t 56 i = M 56 i := by unfold sx1_; rw [up_ne (by decide), up_of2 h]
theorem sq_r [Inhabited gh_] {r : Nat} (h : r ∉ [6, 152, 155, 156]) : sq_ N t r = N r := by
  unfold sq_
  rw [up_ne (fun e => h (by rw [e]; decide)), up_ne (fun e => h (by rw [e]; decide)), up_ne (fun e => h (by rw [e]; decide)), up_ne (fun e => h (by rw [e]; decide))]
theorem sq_6 [Inhabited gh_] {i : Int} (h : i ≠ 17) : sq_ N t 6 i = N 6 i := by unfold sq_; rw [up_of2 h, up_ne (by decide), up_ne (by decide), up_ne (by decide)]
theorem sq_o [Inhabited gh_] {r : Nat} {i : Int} (h : r ≠ 6) (hi : i ≠ N 6 17) : sq_ N t r i = N r i := by unfold sq_; rw [up_ne h, up_of2 hi, up_of2 hi, up_of2 hi]
theorem sq_k [Inhabited gh_] : sq_ N t 6 17 = N 6 17 + 1 ∧ sq_ N t 152 (N 6 17) = N 151 t ∧ sq_ N t 155 (N 6 17) = N 150 t ∧ sq_ N t 156 (N 6 17) = 0 := by
  unfold sq_
  refine ⟨up_at, ?_, ?_, ?_⟩
  · rw [up_ne (by decide), up_ne (by decide), up_ne (by decide), up_at]
  · rw [up_ne (by decide), up_ne (by decide), up_at]
  · rw [up_ne (by decide), up_at]
theorem SY_sg [Inhabited gh_] (h : SY0 b F M N a) (hb : b = 0) (ht : nm9_ M t) (hta : t < a) (hlt : ∀ u, GLM M u → u < t) (h6 : M 5 0 < 20) (hf : M 1 7 + 1 + 8 * (1201 - a) ≤ 1000000000 - (gg_ : Int)) : SY0 b (Fg_ F M N t) (up_ (sx1_ (gd1_ M N t) t) 112 (M 5 0) 0) (sq_ (gq_ N t) t) a := by
  obtain ⟨⟨s1, s2, s3⟩, ⟨g1, g2, g3, g4, g5⟩, ty, ⟨tp, gl⟩, ⟨⟨c1, c2, c3⟩, c4, c5, c6, c7, c8, c9, c10⟩, sr⟩ := h
  obtain ⟨⟨a1, a1'⟩, a2⟩ := g1
  obtain ⟨⟨a3, a3'⟩, a4, a5⟩ := g2
  obtain ⟨a6, a6'⟩ := g3
  obtain ⟨⟨u1, u2⟩, u3, u4, u5⟩ := g5
  have hpl := (s1 t ht.1).2.2.2.1
  have hp15 : N 150 t = M 71 t := (s1 t ht.1).2.1.symm
  have hF : Fg_ F M N t ≤ F := Fg_le
  have e50 : gd1_ M N t 5 0 = M 5 0 := by rw [gd1_r (by decide)]
  have x : ∀ r : Nat, r ∉ [1, 5, 56, 112] → up_ (sx1_ (gd1_ M N t) t) 112 (M 5 0) 0 r = M r := fun r h => by rw [up_ne (fun e => h (by rw [e]; decide)), sx1_r (fun e => h (by rw [e]; decide)) (fun e => h (by rw [e]; decide)), gd1_r (fun e => h (by rw [e]; decide))]
  have xo : ∀ (r : Nat) (i : Int), r = 56 ∨ r = 112 → i ≠ M 5 0 → up_ (sx1_ (gd1_ M N t) t) 112 (M 5 0) 0 r i = M r i := fun r i h hi => by
    rcases h with e | e
    · rw [e, up_ne (by decide), sx1_o (by rw [e50]; exact hi), gd1_r (by decide)]
    · rw [e, up_of2 hi, sx1_r (by decide) (by decide), gd1_r (by decide)]
  have x5 : ∀ i : Int, i ≠ 0 → up_ (sx1_ (gd1_ M N t) t) 112 (M 5 0) 0 5 i = M 5 i := fun i h => by rw [up_ne (by decide), sx1_5 h, gd1_r (by decide)]
  have x1 : up_ (sx1_ (gd1_ M N t) t) 112 (M 5 0) 0 1 = gd1_ M N t 1 := by rw [up_ne (by decide), sx1_r (by decide) (by decide)]
  have x1i : ∀ i : Int, i ≠ 4 → i ≠ 5 → i ≠ 7 → up_ (sx1_ (gd1_ M N t) t) 112 (M 5 0) 0 1 i = M 1 i := fun i h4 h5 h7 => by rw [x1]; exact gd1_1 h4 h5 h7
  have k50 : up_ (sx1_ (gd1_ M N t) t) 112 (M 5 0) 0 5 0 = M 5 0 + 1 := by rw [up_ne (by decide), sx1_k.1, e50]
  have k56 : up_ (sx1_ (gd1_ M N t) t) 112 (M 5 0) 0 56 (M 5 0) = t := by
    have := (sx1_k (M := gd1_ M N t) (t := t)).2
    rw [e50] at this
    rw [up_ne (by decide)]; exact this
  have k112 : up_ (sx1_ (gd1_ M N t) t) 112 (M 5 0) 0 112 (M 5 0) = 0 := up_at
  have g17 : gq_ N t 6 17 = M 5 0 := by rw [gq_6 (by decide)]; exact a1.2.2
  have q : ∀ r : Nat, r ∉ [6, 152, 155, 156, 190, 191] → sq_ (gq_ N t) t r = N r := fun r h => by
    rw [sq_r (fun e => h (by revert e; simp only [List.mem_cons, List.not_mem_nil, or_false]; (clear hb ht hta hlt h6 hf s1 s2 s3 g4 ty tp gl sr c1 c2 c3 c4 c5 c6 c7 c8 c9 c10 a2 a1 a1' a3 a3' a4 a5 a6 a6' u1 u2 u3 u4 u5 hpl hp15 hF e50 x xo x5 x1 x1i k50 k56 k112 g17 h; lia))), gq_r (fun e => h (by rw [e]; decide)) (fun e => h (by rw [e]; decide)) (fun e => h (by rw [e]; decide))]
  have qo : ∀ (r : Nat) (i : Int), r ≠ 6 → r ≠ 190 → r ≠ 191 → i ≠ M 5 0 → sq_ (gq_ N t) t r i = N r i := fun r i h h1 h2 hi => by rw [sq_o h (by rw [g17]; exact hi), gq_r h h1 h2]
  have q6 : ∀ i : Int, i ≠ 17 → i ≠ 58 → sq_ (gq_ N t) t 6 i = N 6 i := fun i h h' => by rw [sq_6 h, gq_6 h']
  have q58 : sq_ (gq_ N t) t 6 58 = N 6 58 + 1 := by rw [sq_6 (by decide)]; exact gq_k.1
  have q190 : ∀ (r : Nat) (i : Int), r = 190 ∨ r = 191 → i ≠ N 6 58 → sq_ (gq_ N t) t r i = N r i := fun r i hr hi => by rw [sq_r (by rcases hr with e | e <;> rw [e] <;> decide), gq_o (by (clear hb ht hta hlt h6 hf s1 s2 s3 g4 ty tp gl sr c1 c2 c3 c4 c5 c6 c7 c8 c9 c10 a2 a1 a1' a3 a3' a4 a5 a6 a6' u1 u2 u3 u4 u5 hpl hp15 hF e50 x xo x5 x1 x1i k50 k56 k112 g17 q qo q6 q58; lia)) hi]
  have q190k : sq_ (gq_ N t) t 190 (N 6 58) = N 151 t ∧ sq_ (gq_ N t) t 191 (N 6 58) = N 150 t := by rw [sq_r (by decide), sq_r (by decide)]; exact gq_k.2
  obtain ⟨l17, l152, l155, l156⟩ := sq_k (N := gq_ N t) (t := t)
  rw [g17] at l17 l152 l155 l156
  rw [gq_r (by decide) (by decide) (by decide)] at l152 l155
  have hE : ER b (Fg_ F M N t) (up_ (sx1_ (gd1_ M N t) t) 112 (M 5 0) 0) (sq_ (gq_ N t) t) a 0 := ER_1 (ER_gd (t := t) s2 hb (by (clear hb ht hta hlt h6 hf s1 s2 s3 g4 ty tp gl sr c1 c2 c3 c4 c5 c6 c7 c8 c9 c10 a2 a1 a1' a3 a3' a4 a5 a6 a6' u1 u2 u3 u4 u5 hF e50 x xo x5 x1 x1i k50 k56 k112 g17 q qo q6 q58 q190 l17 l152 l156; lia)) (by (clear hb ht hta hlt h6 s1 s2 s3 g4 ty tp gl sr c1 c2 c3 c4 c5 c6 c7 c8 c9 c10 a2 a1 a1' a3 a3' a4 a5 a6 a6' u1 u2 u3 u4 u5 hpl hp15 hF e50 x xo x5 x1 x1i k50 k56 k112 g17 q qo q6 q58 q190 q190k l17 l152 l155 l156; lia))) (by rw [up_ne (by decide), sx1_r (by decide) (by decide)]) (by rw [up_ne (by decide), sx1_5 (by decide)]) (fun i _ => by rw [x1]) (fun i hi => q6 i (fun e => by rw [e] at hi; revert hi; decide) (fun e => by rw [e] at hi; revert hi; decide))
  have f7 := gd1_7 (M := M) (N := N) (t := t)
  rw [← x1] at f7
  clear x1
  generalize eM : up_ (sx1_ (gd1_ M N t) t) 112 (M 5 0) 0 = M9 at *
  generalize eN : sq_ (gq_ N t) t = N9 at *
  have e70 := x 70 (by decide)
  have e71 := x 71 (by decide)
  have e151 := q 151 (by decide)
  have nm : ∀ u, nm9_ M u → nm9_ M9 u := fun u hu => nm9_r hu e70
  have hTk : Tks M9 N9 := Tks_r s1 (fun r hr => x r (fun e => by simp only [List.mem_cons, List.not_mem_nil, or_false] at hr e; (clear hb ht hta hlt h6 hf s1 s2 s3 g4 ty tp gl sr c1 c2 c3 c4 c5 c6 c7 c8 c9 c10 a2 a1 a1' a3 a3' a4 a5 a6 a6' u1 u2 u3 u4 u5 hpl hp15 hF e50 g17 eM x xo x5 x1i k50 k56 k112 f7 eN q qo q6 q58 q190 q190k l17 l152 l155 l156 hE e70 e71 e151 nm; lia))) (fun r hr => q r (fun e => by simp only [List.mem_cons, List.not_mem_nil, or_false] at hr e; (clear hb ht hta hlt h6 hf s1 s2 s3 g4 ty tp gl sr c1 c2 c3 c4 c5 c6 c7 c8 c9 c10 a2 a1 a1' a3 a3' a4 a5 a6 a6' u1 u2 u3 u4 u5 hpl hp15 hF e50 g17 eM x xo x5 x1i k50 k56 k112 f7 eN q qo q6 q58 q190 q190k l17 l152 l155 l156 hE e70 e71 e151 nm; lia)))
  have glm : ∀ u, GLM M9 u ↔ GLM M u ∨ u = t := fun u => by
    unfold GLM
    rw [x5 2 (by decide), x5 1 (by decide), x 58 (by decide), x 57 (by decide), k50]
    constructor
    · rintro (⟨k, hk, e⟩ | h | h)
      · by_cases c : k = M 5 0
        · rw [c, k56] at e; exact .inr e.symm
        · rw [xo 56 k (.inl rfl) c] at e
          exact .inl (.inl ⟨k, by (clear hb ht hta hlt h6 hf s1 s2 s3 g4 ty tp gl sr c1 c2 c3 c4 c5 c6 c7 c8 c9 c10 a2 a1' a3' a4 a5 a6' u1 u3 u4 u5 hpl hp15 hF eM x xo x5 x1i k56 k112 f7 eN q qo q6 q58 q190 q190k l152 l155 l156 hE e70 e71 e151 nm hTk e; lia), e⟩)
      · exact .inl (.inr (.inl h))
      · exact .inl (.inr (.inr h))
    · rintro ((⟨k, hk, e⟩ | h | h) | h)
      · exact .inl ⟨k, by (clear hb ht hta hlt h6 hf s1 s2 s3 g4 ty tp gl sr c1 c2 c3 c4 c5 c6 c7 c8 c9 c10 a2 a1' a3' a4 a5 a6' u1 u3 u4 u5 hpl hp15 hF eM x xo x5 x1i k56 k112 f7 eN q qo q6 q58 q190 q190k l152 l155 l156 hE e70 e71 e151 nm hTk e; lia), by rw [xo 56 k (.inl rfl) (by (clear hb ht hta hlt h6 hf s1 s2 s3 g4 ty tp gl sr c1 c2 c3 c4 c5 c6 c7 c8 c9 c10 a2 a1' a3' a4 a5 a6' u1 u3 u4 u5 hpl hp15 hF eM x xo x5 x1i k56 k112 f7 eN q qo q6 q58 q190 q190k l152 l155 l156 hE e70 e71 e151 nm hTk e; lia))]; exact e⟩
      · exact .inr (.inl h)
      · exact .inr (.inr h)
      · exact .inl ⟨M 5 0, by (clear hb ht hta hlt hf s1 s2 s3 g4 ty tp gl sr c1 c2 c3 c4 c5 c6 c7 c8 c9 c10 a2 a1' a3' a4 a5 a6' u1 u3 u4 u5 hpl hp15 hF eM x xo x5 x1i k56 k112 f7 eN q qo q6 q58 q190 q190k l152 l155 l156 hE e70 e71 e151 nm hTk h; lia), by rw [k56]; exact h.symm⟩
  refine ⟨⟨hTk, hE, by rw [x1i 2 (by decide) (by decide) (by decide)]; exact s3⟩, ⟨?_, ?_, ?_, fun hb1 => by omega, ?_⟩, fun T T0 T1 => ?_, ⟨by rw [x5 2 (by decide), x 58 (by decide)]; exact tp, fun _ u hu => ?_⟩, ⟨⟨by rw [q6 75 (by decide) (by decide)]; exact c1, by rw [q6 104 (by decide) (by decide)]; exact c2, by rw [x5 3 (by decide)]; exact c3⟩, by rw [q6 76 (by decide) (by decide)]; exact c4, by (clear hb ht hta hlt h6 s1 s2 s3 g4 ty tp gl sr c1 c2 c3 c4 c5 c6 c7 c8 c9 c10 a2 a1 a1' a3 a3' a4 a5 a6 a6' u1 u2 u3 u4 u5 hpl hp15 hF e50 g17 eM x xo x5 x1i k50 k56 k112 eN q qo q6 q58 q190 q190k l17 l152 l155 l156 hE e70 e71 e151 nm hTk glm; omega), by rw [q6 90 (by decide) (by decide)]; exact c6, by rw [x1i 21 (by decide) (by decide) (by decide), x1i 23 (by decide) (by decide) (by decide)]; exact c7, by rw [x5 4 (by decide)]; exact c8, by rw [q6 62 (by decide) (by decide)]; exact c9, by rw [q6 63 (by decide) (by decide)]; exact c10⟩, fun hb1 => by (clear ht hta hlt h6 hf s1 s2 s3 g4 ty tp gl sr c1 c2 c3 c4 c5 c6 c7 c8 c9 c10 a2 a1 a1' a3 a3' a4 a5 a6 a6' u1 u2 u3 u4 u5 hpl hp15 hF e50 g17 eM x xo x5 x1i k50 k56 k112 f7 eN q qo q6 q58 q190 q190k l17 l152 l155 l156 hE e70 e71 e151 nm hTk glm; lia)⟩
  · unfold SGT sgl9
    rw [k50, l17, e151, x 113 (by decide), q 157 (by decide)]
    refine ⟨⟨by (clear hb ht hta hlt hf s1 s2 s3 g4 ty tp gl sr c1 c2 c3 c4 c5 c6 c7 c8 c9 c10 a2 a1' a3' a4 a5 a6' u1 u3 u4 u5 hpl hp15 hF eM x xo x5 x1i k56 k112 f7 eN q qo q6 q58 q190 q190k l152 l155 l156 hE e70 e71 e151 nm hTk glm; lia), fun k k0 k1 => ?_⟩, fun k k0 k1 => ?_⟩
    · by_cases c : k = M 5 0
      · rw [c, k56, l152]; exact ⟨nm _ ht, rfl⟩
      · rw [xo 56 k (.inl rfl) c, qo 152 k (by decide) (by decide) (by decide) c]
        have z := a1' k k0 (by (clear hb ht hta hlt h6 hf s1 s2 s3 g4 ty tp gl sr c1 c2 c3 c4 c5 c6 c7 c8 c9 c10 a2 a1' a3' a4 a5 a6' u1 u3 u4 u5 hpl hp15 hF eM x xo x5 x1i k56 k112 f7 eN q qo q6 q58 q190 q190k l152 l155 l156 hE e70 e71 e151 nm hTk glm k0; lia))
        exact ⟨nm _ z.1, z.2⟩
    · by_cases c : k = M 5 0
      · rw [c, k112, l156]; exact ⟨by decide, fun i i0 i1 => by (clear hb ht hta hlt h6 hf s1 s2 s3 g4 ty tp gl sr c1 c2 c3 c4 c5 c6 c7 c8 c9 c10 a2 a1 a1' a3 a3' a4 a5 a6 a6' u1 u2 u3 u4 u5 hpl hp15 hF e50 g17 eM x xo x5 x1i k50 k56 k112 f7 eN q qo q6 q58 q190 q190k l17 l152 l155 l156 hE e70 e71 e151 nm hTk glm k0 k1 c; omega)⟩
      · rw [xo 112 k (.inr rfl) c, qo 156 k (by decide) (by decide) (by decide) c]; exact a2 k k0 (by (clear hb ht hta hlt h6 hf s1 s2 s3 g4 ty tp gl sr c1 c2 c3 c4 c5 c6 c7 c8 c9 c10 a2 a1' a3' a4 a5 a6' u1 u3 u4 u5 hpl hp15 hF eM x xo x5 x1i k56 k112 f7 eN q qo q6 q58 q190 q190k l152 l155 l156 hE e70 e71 e151 nm hTk glm k0; lia))
  · unfold PRT tpl9
    rw [x5 2 (by decide), q6 19 (by decide) (by decide), x 58 (by decide), q 154 (by decide), e151, q 170 (by decide), q 182 (by decide), q 183 (by decide), x 122 (by decide), x 130 (by decide)]
    exact ⟨⟨a3, fun k k0 k1 => ⟨nm _ (a3' k k0 k1).1, (a3' k k0 k1).2⟩⟩, a4, a5⟩
  · unfold rtl9
    rw [x5 1 (by decide), q6 18 (by decide) (by decide), x 57 (by decide), q 153 (by decide), e151]
    exact ⟨a6, fun k k0 k1 => ⟨nm _ (a6' k k0 k1).1, (a6' k k0 k1).2⟩⟩
  · unfold GLT
    rw [q58, x5 2 (by decide), x5 1 (by decide), k50, e151, e71]
    refine ⟨by (clear hb ht hta hlt h6 hf s1 s2 s3 g4 ty tp gl sr c1 c2 c3 c4 c5 c6 c7 c8 c9 c10 a2 a1' a3' a4 a5 a6' u3 u4 u5 hpl hp15 hF e50 g17 eM x xo x5 x1i k50 k56 k112 f7 eN q qo q6 q190 q190k l17 l152 l155 l156 hE e70 e71 e151 nm hTk glm; lia), fun i i0 i1 => ?_, fun u v hu hv he hl => ?_, fun k k0 k1 => ?_, fun u hu => ?_⟩
    · by_cases c : i = N 6 58
      · rw [c, q190k.1, q190k.2]
        exact ⟨t, ⟨nm _ ht, (glm t).2 (.inr rfl)⟩, rfl, hp15⟩
      · rw [q190 190 i (.inl rfl) c, q190 191 i (.inr rfl) c]
        obtain ⟨u, hu, w⟩ := u3 i i0 (by (clear hb ht hta hlt h6 hf s1 s2 s3 g4 ty tp gl sr c1 c2 c3 c4 c5 c6 c7 c8 c9 c10 a2 a1 a1' a3 a3' a4 a5 a6 a6' u1 u2 u3 u4 u5 hpl hp15 hF e50 g17 eM x xo x5 x1i k50 k56 k112 f7 eN q qo q6 q190 q190k l17 l152 l155 l156 hE e70 e71 e151 nm hTk glm i0; omega))
        exact ⟨u, ⟨nm _ hu.1, (glm u).2 (.inl hu.2)⟩, w⟩
    · rcases (glm u).1 hu with hu | hu
      · rcases (glm v).1 hv with hv | hv
        · have := u4 u v hu hv he hl; (clear hb ht hta hlt h6 hf s1 s2 s3 g4 ty tp gl sr c1 c2 c3 c4 c5 c6 c7 c8 c9 c10 a2 a1 a1' a3 a3' a4 a5 a6 a6' u1 u2 u3 u4 u5 hpl hp15 e50 g17 eM x xo x5 x1i k50 k56 k112 f7 eN q qo q6 q58 q190 q190k l17 l152 l155 l156 hE e70 e71 e151 nm hTk glm he hl hu hv; lia)
        · rw [hv] at he ⊢
          have told := GLM_told ⟨a1, a1'⟩ ⟨a6, a6'⟩ ⟨a3, a3'⟩ hu he
          unfold Fg_
          rw [if_neg told]; (clear hb ht hta hlt h6 hf s1 s2 s3 g4 ty tp gl sr c1 c2 c3 c4 c5 c6 c7 c8 c9 c10 a2 a1 a1' a3 a3' a4 a5 a6 a6' u1 u2 u3 u4 u5 hpl hF e50 g17 eM x xo x5 x1i k50 k56 k112 f7 eN q qo q6 q58 q190 l17 l152 l156 hE e70 e71 e151 nm hTk glm he hl hu hv told; lia)
      · rcases (glm v).1 hv with hv | hv
        · have := hlt v hv; (clear hb ht hta hlt h6 hf s1 s2 s3 g4 ty tp gl sr c1 c2 c3 c4 c5 c6 c7 c8 c9 c10 a2 a1 a1' a3 a3' a4 a5 a6 a6' u1 u2 u3 u4 u5 hpl hp15 hF e50 g17 eM x xo x5 x1i k50 k112 f7 eN q qo q6 q58 q190 q190k l17 l152 l155 l156 hE e70 e71 e151 nm hTk glm he hv; omega)
        · (clear hb ht hta hlt h6 hf s1 s2 s3 g4 ty tp gl sr c1 c2 c3 c4 c5 c6 c7 c8 c9 c10 a2 a1 a1' a3 a3' a4 a5 a6 a6' u1 u2 u3 u4 u5 hpl hp15 hF e50 g17 eM x xo x5 x1i k50 k112 f7 eN q qo q6 q58 q190 q190k l17 l152 l155 l156 hE e70 e71 e151 nm hTk glm he; lia)
    · by_cases c : k = M 5 0
      · rw [c, l155, k56]; exact hp15
      · rw [qo 155 k (by decide) (by decide) (by decide) c, xo 56 k (.inl rfl) c]; exact u5.1 k k0 (by (clear hb ht hta hlt h6 hf s1 s2 s3 g4 ty tp gl sr c1 c2 c3 c4 c5 c6 c7 c8 c9 c10 a2 a1' a3' a4 a5 a6' u1 u3 u4 u5 hpl hp15 hF eM x xo x5 x1i k56 k112 f7 eN q qo q6 q58 q190 q190k l152 l155 l156 hE e70 e71 e151 nm hTk glm k0; lia))
    · rcases (glm u).1 hu with hu | hu
      · obtain ⟨i, hi, w⟩ := u5.2 u hu
        exact ⟨i, by (clear hb ht hta hlt h6 hf s1 s2 s3 g4 ty tp gl sr c1 c2 c3 c4 c5 c6 c7 c8 c9 c10 a2 a1 a1' a3 a3' a4 a5 a6 a6' u1 u2 u3 u4 u5 hpl hp15 hF e50 g17 eM x xo x5 x1i k50 k56 k112 f7 eN q qo q6 q190 q190k l17 l152 l155 l156 hE e70 e71 e151 nm hTk glm hu w; omega), by rw [q190 190 i (.inl rfl) (by (clear hb ht hta hlt h6 hf s1 s2 s3 g4 ty tp gl sr c1 c2 c3 c4 c5 c6 c7 c8 c9 c10 a2 a1 a1' a3 a3' a4 a5 a6 a6' u1 u2 u3 u4 u5 hpl hp15 hF e50 g17 eM x xo x5 x1i k50 k56 k112 f7 eN q qo q6 q190 q190k l17 l152 l155 l156 hE e70 e71 e151 nm hTk glm hu w; omega)), q190 191 i (.inr rfl) (by omega)]; exact w⟩
      · rw [hu]; exact ⟨N 6 58, by (clear hb ht hta hlt h6 hf s1 s2 s3 g4 ty tp gl sr c1 c2 c3 c4 c5 c6 c7 c8 c9 c10 a2 a1 a1' a3 a3' a4 a5 a6 a6' u2 u3 u4 u5 hpl hp15 hF e50 g17 eM x xo x5 x1i k50 k56 k112 f7 eN q qo q6 q190 q190k l17 l152 l155 l156 hE e70 e71 e151 nm hTk glm hu; lia), by rw [q190k.1, q190k.2]; exact ⟨rfl, hp15⟩⟩
  · rw [x5 2 (by decide)] at T1
    exact TYP_c (ty T T0 T1) (ROW_e (fun r hr => x r (fun e => by revert hr e; unfold rwX; simp only [List.mem_cons, List.not_mem_nil, or_false]; (clear hb ht hta hlt h6 hf s1 s2 s3 g4 ty tp gl sr c1 c2 c3 c4 c5 c6 c7 c8 c9 c10 a2 a1 a1' a3 a3' a4 a5 a6 a6' u1 u2 u3 u4 u5 hpl hp15 hF e50 g17 eM x xo x5 x1i k50 k56 k112 f7 eN q qo q6 q58 q190 q190k l17 l152 l155 l156 hE e70 e71 e151 nm hTk glm T0 T1; omega))) (fun r hr => q r (fun e => by revert hr e; unfold rwQ; simp only [List.mem_cons, List.not_mem_nil, or_false]; (clear hb ht hta hlt h6 hf s1 s2 s3 g4 ty tp gl sr c1 c2 c3 c4 c5 c6 c7 c8 c9 c10 a2 a1 a1' a3 a3' a4 a5 a6 a6' u1 u2 u3 u4 u5 hpl hp15 hF e50 g17 eM x xo x5 x1i k50 k56 k112 f7 eN q qo q6 q58 q190 q190k l17 l152 l155 l156 hE e70 e71 e151 nm hTk glm T0 T1; omega)))) e70 e71 e151 hF (Int.le_refl _)
  · rcases (glm u).1 hu with h | h
    · exact gl hb u h
    · (clear hb ht hlt h6 hf s1 s2 s3 g4 ty tp gl sr c1 c2 c3 c4 c5 c6 c7 c8 c9 c10 a2 a1 a1' a3 a3' a4 a5 a6 a6' u1 u2 u3 u4 u5 hpl hp15 hF e50 g17 eM x xo x5 x1i k50 k112 f7 eN q qo q6 q58 q190 q190k l17 l152 l155 l156 hE e70 e71 e151 nm hTk glm hu; omega)
end SGs
end T267_sg
section T268_sg
/-! a signal's sorts: the relation -/
section SGr
variable {b F F1 : Int} {M N M1 N1 N' : mm_} {a T t ns k v : Int}
theorem SY_sgt [Inhabited gh_] (h : SY0 b F M N a) (hx : ∀ r : Nat, r ≠ 112 → r ≠ 113 → M1 r = M r) (hq : ∀ r : Nat, r ≠ 156 → r ≠ 157 → N1 r = N r) (hsg : SGT M1 N1) : SY0 b F M1 N1 a := by
  have h1 : ∀ i : Int, i ∈ [2, 21, 23] → M1 1 i = M 1 i := fun i _ => by rw [hx 1 (by decide) (by decide)]
  have h6 : ∀ i : Int, i ∈ [17, 18, 19, 58, 62, 63, 75, 76, 90, 104] → N1 6 i = N 6 i := fun i _ => by rw [hq 6 (by decide) (by decide)]
  have hE : ER b F M1 N1 a 0 := by
    have q6 := hq 6 (by decide) (by decide)
    exact ER_Q (ER_X h.1.2.1 (hx 70 (by decide) (by decide)) (hx 1 (by decide) (by decide)) (hx 5 (by decide) (by decide))) (by rw [q6]) (by rw [q6]) (by rw [q6]) (by rw [q6]) (by rw [q6])
  have h7 : M1 1 7 + 8 * (1201 - a) ≤ 1000000000 - (gg_ : Int) := by rw [hx 1 (by decide) (by decide)]; exact h.2.2.2.2.1.2.2.1
  have ha : a ≤ a := Int.le_refl _
  obtain ⟨⟨s1, s2, s3⟩, ⟨g1, g2, g3, g4, g5⟩, ty, ⟨tp, gl⟩, ⟨⟨c1, c2, c3⟩, c4, c5, c6, c7, c8, c9, c10⟩, sr⟩ := h
  have e5 := hx 5 (by decide) (by decide)
  have e70 := hx 70 (by decide) (by decide)
  have e71 := hx 71 (by decide) (by decide)
  have e151 := hq 151 (by decide) (by decide)
  have nm : ∀ u, nm9_ M u → nm9_ M1 u := fun u hu => nm9_r hu e70
  have tpe : tpl N1 = tpl N := by funext y; unfold tpl; rw [h6 19 (by decide), hq 154 (by decide) (by decide)]
  have glm : ∀ u, GLM M1 u ↔ GLM M u := fun u => by
    unfold GLM
    rw [e5, hx 56 (by decide) (by decide), hx 57 (by decide) (by decide), hx 58 (by decide) (by decide)]
  obtain ⟨⟨a1', a1''⟩, a2⟩ := g1
  obtain ⟨⟨a3, a3'⟩, a4, a5⟩ := g2
  obtain ⟨a6, a6'⟩ := g3
  obtain ⟨u1, u3, u4, u5⟩ := g5
  refine ⟨⟨Tks_r s1 (fun r hr => hx r (fun e => by rw [e] at hr; revert hr; decide) (fun e => by rw [e] at hr; revert hr; decide)) (fun r hr => hq r (fun e => by rw [e] at hr; revert hr; decide) (fun e => by rw [e] at hr; revert hr; decide)), hE, by rw [h1 2 (by decide)]; exact s3⟩, ⟨?_, ?_, ?_, fun hb => ?_, ?_⟩, fun T T0 T1 => ?_, ⟨by rw [e5, hx 58 (by decide) (by decide)]; exact tp, fun hb u hu => by have := gl hb u ((glm u).1 hu); omega⟩, ⟨⟨by rw [h6 75 (by decide)]; omega, by rw [h6 104 (by decide)]; omega, by rw [e5]; omega⟩, by rw [h6 76 (by decide)]; omega, h7, by rw [h6 90 (by decide)]; omega, by rw [h1 21 (by decide), h1 23 (by decide)]; exact c7, by rw [e5]; omega, by rw [h6 62 (by decide)]; omega, by rw [h6 63 (by decide)]; omega⟩, fun hb => ?_⟩
  · exact hsg
  · unfold PRT tpl9
    rw [e5, h6 19 (by decide), hx 58 (by decide) (by decide), hq 154 (by decide) (by decide), e151, hq 170 (by decide) (by decide), hq 182 (by decide) (by decide), hq 183 (by decide) (by decide), hx 122 (by decide) (by decide), hx 130 (by decide) (by decide)]
    exact ⟨⟨a3, fun k k0 k1 => ⟨nm _ (a3' k k0 k1).1, (a3' k k0 k1).2⟩⟩, a4, a5⟩
  · unfold rtl9
    rw [e5, h6 18 (by decide), hx 57 (by decide) (by decide), hq 153 (by decide) (by decide), e151]
    exact ⟨a6, fun k k0 k1 => ⟨nm _ (a6' k k0 k1).1, (a6' k k0 k1).2⟩⟩
  · unfold RT1
    rw [e5, hx 114 (by decide) (by decide), hx 119 (by decide) (by decide), hq 158 (by decide) (by decide), hq 164 (by decide) (by decide), tpe]
    exact g4 hb
  · unfold GLT
    rw [h6 58 (by decide), e5, hq 190 (by decide) (by decide), hq 191 (by decide) (by decide), e151, e71, hq 155 (by decide) (by decide), hx 56 (by decide) (by decide)]
    refine ⟨u1, fun i i0 i1 => ?_, fun u v hu hv => u4 u v ((glm u).1 hu) ((glm v).1 hv), u5.1, fun u hu => u5.2 u ((glm u).1 hu)⟩
    obtain ⟨u, hu, w⟩ := u3 i i0 i1
    exact ⟨u, ⟨nm _ hu.1, (glm u).2 hu.2⟩, w⟩
  · rw [e5] at T1
    exact TYP_c (ty T T0 T1) (ROW_e (fun r hr => hx r (fun e => by rw [e] at hr; revert hr; decide) (fun e => by rw [e] at hr; revert hr; decide)) (fun r hr => hq r (fun e => by rw [e] at hr; revert hr; decide) (fun e => by rw [e] at hr; revert hr; decide))) e70 e71 e151 (Int.le_refl _) ha
  · obtain ⟨⟨xs, hs⟩, hl⟩ := sr hb
    refine ⟨⟨xs, SRW_c hs (by rw [e5]) (hx _ (by decide) (by decide)) (hx _ (by decide) (by decide)) (hx _ (by decide) (by decide)) (hx _ (by decide) (by decide)) (hx _ (by decide) (by decide)) (h6 _ (by decide)) (h6 _ (by decide)) (hq _ (by decide) (by decide)) (hq _ (by decide) (by decide)) (hq _ (by decide) (by decide)) (hq _ (by decide) (by decide)) (hq _ (by decide) (by decide)) (hq _ (by decide) (by decide))⟩, ?_⟩
    rw [h6 62 (by decide), h6 63 (by decide), hq 199 (by decide) (by decide)]; exact hl
theorem SG_add [Inhabited gh_] (h : SY0 b F (up_ M 112 ns k) N a) (hb : b = 0) (hn : 0 ≤ ns ∧ ns < M 5 0) (hk : 0 ≤ k ∧ k ≤ 2) (hv : 0 ≤ v ∧ v ≤ 2) : SY0 b F (up_ (up_ M 113 (3 * ns + k) v) 112 ns (k + 1)) (up_ (up_ N 157 (3 * ns + k) (v + 1)) 156 ns (k + 1)) a := by
  have g := h.2.1.1
  refine SY_sgt h (fun r h1 h2 => by rw [up_ne h1, up_ne h2, up_ne h1]) (fun r h1 h2 => by rw [up_ne h1, up_ne h2]) ?_
  obtain ⟨⟨a1, a1'⟩, a2⟩ := g
  have x : ∀ r : Nat, r ≠ 112 → r ≠ 113 → up_ (up_ M 113 (3 * ns + k) v) 112 ns (k + 1) r = up_ M 112 ns k r := fun r h1 h2 => by rw [up_ne h1, up_ne h2, up_ne h1]
  have q : ∀ r : Nat, r ≠ 156 → r ≠ 157 → up_ (up_ N 157 (3 * ns + k) (v + 1)) 156 ns (k + 1) r = N r := fun r h1 h2 => by rw [up_ne h1, up_ne h2]
  unfold SGT sgl9
  rw [x 5 (by decide) (by decide), x 56 (by decide) (by decide), q 6 (by decide) (by decide), q 152 (by decide) (by decide), q 151 (by decide) (by decide)]
  refine ⟨⟨a1, fun i i0 i1 => ⟨nm9_r (a1' i i0 i1).1 (x 70 (by decide) (by decide)), (a1' i i0 i1).2⟩⟩, fun s s0 s1 => ?_⟩
  have w := a2 s s0 s1
  have e113 : ∀ i, up_ (up_ M 113 (3 * ns + k) v) 112 ns (k + 1) 113 i = if i = 3 * ns + k then v else M 113 i := fun i => by
    rw [up_ne (by decide)]
    by_cases c : i = 3 * ns + k
    · rw [if_pos c, c, up_at]
    · rw [if_neg c, up_of2 c]
  have e157 : ∀ i, up_ (up_ N 157 (3 * ns + k) (v + 1)) 156 ns (k + 1) 157 i = if i = 3 * ns + k then v + 1 else N 157 i := fun i => by
    rw [up_ne (by decide)]
    by_cases c : i = 3 * ns + k
    · rw [if_pos c, c, up_at]
    · rw [if_neg c, up_of2 c]
  have m113 : up_ M 112 ns k 113 = M 113 := up_ne (by decide)
  rw [m113] at w
  by_cases c : s = ns
  · rw [c] at w ⊢
    rw [up_at, up_at]
    rw [up_at] at w
    refine ⟨by (clear h hb hn hv a2 a1 a1' x q s0 s1 e113 e157 m113 c; omega), fun i i0 i1 => ?_⟩
    rw [e113, e157]
    by_cases ci : i = k
    · rw [if_pos (by (clear h hb hn hk hv a2 a1 a1' x q s0 s1 e113 e157 m113 c i0 i1; omega)), if_pos (by omega)]; exact ⟨hv.1, hv.2, rfl⟩
    · rw [if_neg (by (clear h hb hn hk hv a2 a1 a1' x q s0 s1 e113 e157 m113 c i0 i1; omega)), if_neg (by omega)]; exact w.2 i i0 (by (clear h hb hn hk hv a2 a1 a1' x q s0 s1 e113 e157 m113 c i0; omega))
  · rw [up_of2 c, up_of2 c, up_ne (by decide), up_ne (by decide)]
    rw [up_of2 c] at w
    refine ⟨w.1, fun i i0 i1 => ?_⟩
    have := w.1
    rw [e113, e157, if_neg (by (clear h hb hn hv a2 a1 a1' x q s0 s1 e113 e157 m113 this; omega)), if_neg (by omega)]
    exact w.2 i i0 i1
end SGr
end T268_sg
section T269_sl
/-! a signal's sorts: the loop (X 104 V 108 | Q 238 V 10) -/
def SGM (b : Int) (M : mm_) (ns j : Int) : mm_ := if b = 0 then up_ M 112 ns j else M
def sgT (κ : Int → Int) (gm : Int → Int) (ns : Int) (s : sj_) : Option (sj_ ⊕ sj_) := (gS s.1).bind fun a1 => if s.2 = 3 then none else (srS κ a1).bind fun a2 => if gm (3 * ns + s.2) = κ a1 - 28 then (if κ a2 = 244 then some (.inl (a2, s.2 + 1)) else (tS κ 241 a2).bind fun a3 => some (.inr (a3, s.2 + 1))) else none
def SGL (κ : Int → Int) (gm : Int → Int) (ns : Int) (s : sj_) : Option sj_ := LQ (sgT κ gm ns) s
section SGl
variable {κ gm : Int → Int} {ns a j : Int} {b F : Int} {M N M1 N1 : mm_}
theorem sgT_l [Inhabited gh_] (s s' : sj_) (h0 : 0 ≤ s.1) (h1 : s.1 ≤ 1200) (h : sgT κ gm ns s = some (.inl s')) : s.1 + 1 ≤ s'.1 ∧ s'.1 ≤ 1200 := by
  unfold sgT at h
  obtain ⟨x1, e1, h⟩ := bind_s h
  have g1 := gS_s e1
  split at h
  · cases h
  · obtain ⟨x2, e2, h⟩ := bind_s h
    unfold srS at e2
    split at e2
    · have g2 := gS_s e2
      split at h
      · split at h
        · injection h with h; injection h with h; rw [← h]; show s.1 + 1 ≤ x2 ∧ x2 ≤ 1200; omega
        · obtain ⟨x3, e3, h⟩ := bind_s h
          injection h with h; cases h
      · cases h
    · cases e2
theorem SGL_u [Inhabited gh_] (h0 : 0 ≤ a) (h1 : a ≤ 1200) : SGL κ gm ns (a, j) = (sgT κ gm ns (a, j)).bind (lk9 (SGL κ gm ns)) := LQ_u (step := sgT κ gm ns) (fun s => s.1) (fun s s' => sgT_l s s') (s := (a, j)) h0 h1
theorem sgT_y [Inhabited gh_] {L : sj_ → Option sj_} (h12 : a < 1200) (hj : j ≠ 3) : (sgT κ gm ns (a, j)).bind (lk9 L) = (srS κ (a + 1)).bind fun a2 => if gm (3 * ns + j) = κ (a + 1) - 28 then (if κ a2 = 244 then L (a2, j + 1) else (tS κ 241 a2).bind fun a3 => some (a3, j + 1)) else none := by
  unfold sgT
  simp only [gS_e h12, Option.bind_some, if_neg hj]
  cases srS κ (a + 1) with
  | none => rfl
  | some x2 =>
    rw [Option.bind_some, Option.bind_some]
    by_cases cd : gm (3 * ns + j) = κ (a + 1) - 28
    · rw [if_pos cd, if_pos cd]
      by_cases c : κ x2 = 244
      · rw [if_pos c, if_pos c]; rfl
      · rw [if_neg c, if_neg c]
        cases tS κ 241 x2 with
        | none => rfl
        | some x5 => rfl
    · rw [if_neg cd, if_neg cd]; rfl
theorem SGL_e [Inhabited gh_] (h0 : 0 ≤ a) (h12 : a < 1200) (hj : j ≠ 3) : SGL κ gm ns (a, j) = (srS κ (a + 1)).bind fun a2 => if gm (3 * ns + j) = κ (a + 1) - 28 then (if κ a2 = 244 then SGL κ gm ns (a2, j + 1) else (tS κ 241 a2).bind fun a3 => some (a3, j + 1)) else none := (SGL_u h0 (Int.le_of_lt h12)).trans (sgT_y h12 hj)
theorem SGL_3 [Inhabited gh_] (h0 : 0 ≤ a) (h1 : a ≤ 1200) : SGL κ gm ns (a, 3) = none := by
  have e := SGL_u (κ := κ) (gm := gm) (ns := ns) (j := 3) h0 h1
  have e2 : sgT κ gm ns (a, 3) = none := by
    unfold sgT
    cases gS a with
    | none => simp only [Option.bind_none]
    | some a3 => simp only [Option.bind_some, if_true]
  rw [e2, Option.bind_none] at e
  exact e
theorem SGL_g [Inhabited gh_] (h0 : 0 ≤ a) (h1 : a ≤ 1200) (h : SGL κ gm ns (a, j) ≠ none) : a < 1200 := by
  have e := SGL_u (κ := κ) (gm := gm) (ns := ns) (j := j) h0 h1
  rw [e] at h
  have h := bind_n h
  unfold sgT at h
  exact gS_n (bind_n h)
theorem SGM_r [Inhabited gh_] {r : Nat} (h : r ≠ 112) : SGM b M ns j r = M r := by
  unfold SGM; split
  · exact up_ne h
  · rfl
theorem SGM_E [Inhabited gh_] {o : Int} (h : ER b F (SGM b M ns j) N a o) : ER b F M N a o := ER_X h (SGM_r (by decide)).symm (SGM_r (by decide)).symm (SGM_r (by decide)).symm
theorem SGM_E' [Inhabited gh_] {o : Int} (h : ER b F M N a o) : ER b F (SGM b M ns j) N a o := ER_X h (SGM_r (by decide)) (SGM_r (by decide)) (SGM_r (by decide))
theorem SGM_T [Inhabited gh_] (h : Tks (SGM b M ns j) N) : Tks M N := Tks_r h (fun r hr => (SGM_r (fun e => by rw [e] at hr; revert hr; decide)).symm) (fun _ _ => rfl)
theorem SGM_nX [Inhabited gh_] : SGM b (nX_ M) ns j = nX_ (SGM b M ns j) := by
  unfold SGM
  by_cases c : b = 0
  · rw [if_pos c, if_pos c]
    unfold nX_
    rw [show up_ M 112 ns j 1 3 = M 1 3 by rw [up_ne (by decide)]]
    exact up_cc (.inl (by decide))
  · rw [if_neg c, if_neg c]
end SGl
/-- X's end of the sorts -/
def z128 (V : vv_) (Kv : mm_ → Prop) (Qt : qt_) (ns x3 : Int) (M2 : mm_) : Prop := M2 1 2 = 5 ∧ (0 ≤ ns ∧ ns < 20) ∧ Tr_ wd0 pg0 130 117 [.inr (.inr 1), .inl 44] (up_ (up_ M2 1 6 (w32 ((M2 1 6) - 1))) 112 ns (x3 + 1)) (ri_ fun v2 M3 =>
     (if v2 = 0 then
      Tr_ wd0 pg0 130 121 [.inr (.inr 1), .inl 59] M3 (rv_ fun M4 => rv_ Kv [] M4) Qt
     else
      V 0 [rr 1, none, none, none, none] [] M3)) Qt
def q38 (dq : Nat) (x1 j : Int) (N : mm_) (G : mm_ → Prop) (Qt : qt_) : Prop := ∀ V : vv_, Cl_ wd0 (Tr_ wd0 pg0 (dq + 17)) V (rv_ G) Qt m_238 → Wk_ V → V 10 [rr 6, ii x1, ii j, ii 1, none, none] [] (q1_ (nx_ N))
def q38e (dq : Nat) (x1 j : Int) (N : mm_) (G : mm_ → Prop) (Qt : qt_) : Prop := ∀ V : vv_, Cl_ wd0 (Tr_ wd0 pg0 (dq + 17)) V (rv_ G) Qt m_238 → Wk_ V → V 10 [rr 6, ii x1, ii j, ii 0, none, none] [] (q1_ N)
def SGF (b ns : Int) (M N M' N' : mm_) : Prop := (∀ r : Nat, r ≠ 1 → r ≠ 113 → M' r = M r) ∧ (∀ i, i < 3 * ns ∨ 3 * ns + 3 ≤ i → M' 113 i = M 113 i) ∧ (∀ i : Int, i ≠ 3 → M' 1 i = M 1 i) ∧ (∀ r : Nat, r ≠ 6 → r ≠ 156 → r ≠ 157 → N' r = N r) ∧ (∀ i : Int, i ≠ 12 → N' 6 i = N 6 i) ∧ (b = 1 → (∀ r : Nat, r ≠ 1 → M' r = M r) ∧ (∀ r : Nat, r ≠ 6 → N' r = N r))
section SGf
variable {b ns : Int} {M N M1 N1 M2 N2 : mm_}
theorem SGF_rf [Inhabited gh_] : SGF b ns M N M N := ⟨fun _ _ _ => rfl, fun _ _ => rfl, fun _ _ => rfl, fun _ _ _ _ => rfl, fun _ _ => rfl, fun _ => ⟨fun _ _ => rfl, fun _ _ => rfl⟩⟩
theorem SGF_tr [Inhabited gh_] (h : SGF b ns M N M1 N1) (g : SGF b ns M1 N1 M2 N2) : SGF b ns M N M2 N2 := ⟨fun r a c => (g.1 r a c).trans (h.1 r a c), fun i hi => (g.2.1 i hi).trans (h.2.1 i hi), fun i hi => (g.2.2.1 i hi).trans (h.2.2.1 i hi), fun r a c d => (g.2.2.2.1 r a c d).trans (h.2.2.2.1 r a c d), fun i hi => (g.2.2.2.2.1 i hi).trans (h.2.2.2.2.1 i hi), fun hb => ⟨fun r a => ((g.2.2.2.2.2 hb).1 r a).trans ((h.2.2.2.2.2 hb).1 r a), fun r a => ((g.2.2.2.2.2 hb).2 r a).trans ((h.2.2.2.2.2 hb).2 r a)⟩⟩
theorem SGF_go [Inhabited gh_] : SGF b ns M N (nX_ M) (nx_ N) := ⟨fun r h _ => nX_ne h, fun i _ => by rw [nX_ne (by decide)], fun i h => nX_1 h, fun r h _ _ => nx_ne h, fun i h => nx_6 h, fun _ => ⟨fun r h => nX_ne h, fun r h => nx_ne h⟩⟩
theorem SGF_X [Inhabited gh_] (h : SGF b ns M N M1 N1) : XPb M M1 := fun r hr => h.1 r (fun e => hr (by rw [e]; decide)) (fun e => hr (by rw [e]; decide))
theorem SGF_Q [Inhabited gh_] (h : SGF b ns M N M1 N1) : QPb N N1 := ⟨fun r hr => h.2.2.2.1 r (fun e => hr (by unfold QPRr; (clear h hr; lia))) (fun e => hr (by unfold QPRr; omega)) (fun e => hr (by unfold QPRr; omega)), fun i hi => h.2.2.2.2.1 i (nm_i hi (by decide))⟩
end SGf
end T269_sl
section T270_sl
/-! a signal's sorts: the loop, walked -/
def P108 [Inhabited gh_] (dq : Nat) (b : Int) (V : vv_) (Kv : mm_ → Prop) (Qt : qt_) (x1 ns idx : Int) (n : Nat) : Prop := ∀ (a j F : Int) (M N : mm_), 1201 - a ≤ (n : Int) → SY0 b F (SGM b M ns j) N a → a < 1200 → (M 70 a = 240 ∨ M 70 a = 244) → (0 ≤ j ∧ j ≤ 3) → (0 ≤ ns ∧ ns < M 5 0) → (b = 0 → idx = ns) → (b = 1 → SGL (M 70) (M 113) ns (a, j) ≠ none) →
    (∀ M' N' a' j', SY0 b F (SGM b M' ns (j' + 1)) N' a' → a + 2 ≤ a' → (j ≤ j' ∧ j' ≤ 2) → SGF b ns M N M' N' → (∀ i, i < 3 * ns + j → M' 113 i = M 113 i) → M' 70 a' ≠ 244 → (∀ gm, (b = 0 → ∀ i, 3 * ns ≤ i → i < 3 * ns + (j' + 1) → gm i = M' 113 i) → (b = 1 → gm = M 113) → SGL (M 70) gm ns (a, j) = (tS (M 70) 241 a').bind fun a5 => some (a5, j' + 1)) → (∀ (G : mm_ → Prop) (Qtq : qt_), q38e dq idx (j' + 1) N' G Qtq → q38 dq idx j N G Qtq) → Tr_ wd0 pg0 130 121 [.inr (.inr 1), .inl 41] (o1_ M') (rv_ (z128 V Kv Qt ns j')) Qt) →
    (b = 0 → ∀ Mx', XPb M Mx' → (∀ (G : mm_ → Prop) (Qtq : qt_), (∀ M', SQp Mx' N M' → G M') → q38 dq idx j N G Qtq) → Qt 8 Mx') →
    V 108 [rr 1, ii x1, ii ns, ii j, none] [] (o1_ M)
section SGw
variable {dq : Nat} {b : Int} {x1 ns idx a j F v : Int} {M N : mm_} {n : Nat} {Kv G : mm_ → Prop} {Qt Qtq : qt_} {V : vv_}
theorem q38_s [Inhabited gh_] {x2 x3 : Int} (hV : Cl_ wd0 (Tr_ wd0 pg0 (dq + 17)) V (rv_ G) Qtq m_238) (hW : Wk_ V) (hs : sp_ N) (h : G N) : V 10 [rr 6, ii x1, ii x2, ii x3, none, none] [] N := by
  refine b_238_10 (Tr_mono _) hV hW _ _ _ _ ?_
  by_cases c : x3 = 0
  · rw [if_pos c]; exact q_243s hs (rv_i h)
  · rw [if_neg c]; exact q_227s hs (by rw [if_neg (by decide)]; exact q_243s hs (rv_i h))
theorem q57s_s [Inhabited gh_] {x2 x3 x4 x5 : Int} (hV : Cl_ wd0 (Tr_ wd0 pg0 (dq + 17)) V (rv_ G) Qtq m_238) (hW : Wk_ V) (hs : sp_ N) (h : G N) : V 57 [rr 6, ii x1, ii x2, ii x3, ii x4, ii x5] [] N := b_238_57 (Tr_mono _) hV hW _ _ _ _ _ _ (q_227s hs (by rw [if_neg (by decide)]; exact rv_i h))
/-- a sort more, in both -/
def sgX (b : Int) (M : mm_) (ns j v : Int) : mm_ := if b = 0 then up_ M 113 (3 * ns + j) v else M
def sgQ (b : Int) (N : mm_) (ns j v : Int) : mm_ := if b = 0 then up_ (up_ N 157 (3 * ns + j) (v + 1)) 156 ns (j + 1) else N
theorem sg_SY [Inhabited gh_] (h : SY0 b F (SGM b M ns j) N a) (h01 : b = 0 ∨ b = 1) (hn : 0 ≤ ns ∧ ns < M 5 0) (hj : 0 ≤ j ∧ j ≤ 2) (hv : 0 ≤ v ∧ v ≤ 2) : SY0 b F (SGM b (sgX b M ns j v) ns (j + 1)) (sgQ b N ns j v) a := by
  rcases h01 with hb | hb
  · unfold SGM sgX sgQ at *
    rw [if_pos hb] at h
    rw [if_pos hb, if_pos hb, if_pos hb]
    exact SG_add h hb hn hj hv
  · unfold SGM sgX sgQ at *
    rw [if_neg (by omega)] at h
    rw [if_neg (by omega), if_neg (by omega), if_neg (by omega)]
    exact h
theorem sg_SGF [Inhabited gh_] (hj : 0 ≤ j ∧ j ≤ 2) : SGF b ns M N (sgX b M ns j v) (sgQ b N ns j v) := by
  unfold sgX sgQ
  by_cases hb : b = 0
  · rw [if_pos hb, if_pos hb]
    exact ⟨fun r _ h => up_ne h, fun i hi => up_of2 (by omega), fun i _ => by rw [up_ne (by decide)], fun r _ h h' => by rw [up_ne h, up_ne h'], fun i _ => by rw [up_ne (by decide), up_ne (by decide)], fun hb1 => by omega⟩
  · rw [if_neg hb, if_neg hb]; exact SGF_rf
end SGw
end T270_sl
section T271_sl
/-! a signal's sorts: the loop, walked -/
section SGx
variable {dq : Nat} {b : Int} {x1 ns idx : Int} {Kv : mm_ → Prop} {Qt : qt_} {V : vv_}
theorem l_108 [Inhabited gh_] (hV : Cl_ wd0 (Tr_ wd0 pg0 130) V (rv_ Kv) Qt m_104) (hW : Wk_ V) : ∀ n : Nat, P108 dq b V Kv Qt x1 ns idx n
  | 0 => fun a j F M N hn h h12 _ _ _ _ _ _ _ => by omega
  | n + 1 => fun a j F M N hn h h12 hc hj hns hidx hS hK hQ => by
    have hE := SGM_E h.1.2.1
    have hT := SGM_T h.1.1
    have ha := ER_a hE
    have h01 := bl01 hE
    have s20 := h.2.1.1.1.1
    rw [SGM_r (by decide)] at s20
    have m12 : M 1 2 = 5 := by have := h.1.2.2; rw [SGM_r (by decide)] at this; exact this
    have hE1 := (ER_go hE h12 (by (clear hV hW hn h h12 hj hns hK hE hT ha s20 m12; lia))).1
    have H1 : SY0 b F (SGM b (nX_ M) ns j) (nx_ N) (a + 1) := by
      have e := SGM_E' (ns := ns) (j := j) hE1
      rw [SGM_nX] at e ⊢
      exact SY_go h e
    have oE := ER_o1 hE
    have oE1 := ER_o1 hE1
    have hT1 := SGM_T H1.1.1
    have oT1 : Tks (o1_ (nX_ M)) (q1_ (nx_ N)) := Tks_a (XF_XA o1_XF) (QF_QA q1_QF) hT1
    have o70 : o1_ (nX_ M) 70 = M 70 := by rw [o1_r (by decide), nX_ne (by decide)]
    have e12 : q1_ (nx_ N) 6 12 = a + 1 := oE1.2.2.1
    have p1 : q1_ (nx_ N) 150 (a + 1) = o1_ (nX_ M) 71 (a + 1) := ((oT1 (a + 1) oE1.1).2.1).symm
    have xs1 : XPb M (o1_ (nX_ M)) := XPb_tr XPb_nX XPb_o1
    have qs1 : QPb N (q1_ (nx_ N)) := QPb_tr QPb_nx QPb_q1
    have toQ : ∀ {G : mm_ → Prop} {Qtq : qt_}, (∀ V' : vv_, Cl_ wd0 (Tr_ wd0 pg0 (dq + 17)) V' (rv_ G) Qtq m_238 → Wk_ V' → Tr_ wd0 pg0 (dq + 17) 241 [.inr (.inr 6)] (q1_ (nx_ N)) (ri_ fun v2 M4 =>
     Tr_ wd0 pg0 (dq + 17) 227 [.inr (.inr 6)] M4 (ri_ fun v3 M5 =>
      (if v3 = 0 then
       (if j = 3 then
        Tr_ wd0 pg0 (dq + 17) 231 [.inr (.inr 6), .inl 2, .inl (o1_ (nX_ M) 71 (a + 1))] M5 (rv_ fun M6 =>
         V' 57 [rr 6, ii idx, ii j, ii 1, ii (o1_ (nX_ M) 71 (a + 1)), ii v2] [] M6) Qtq
       else
        V' 57 [rr 6, ii idx, ii j, ii 1, ii (o1_ (nX_ M) 71 (a + 1)), ii v2] [] M5)
      else
       V' 57 [rr 6, ii idx, ii j, ii 1, ii (o1_ (nX_ M) 71 (a + 1)), ii v2] [] M5)) Qtq) Qtq) → q38 dq idx j N G Qtq := fun hq V' hV' hW' => by
      refine b_238_10 (Tr_mono _) hV' hW' _ _ _ _ ?_
      rw [if_neg (by decide)]
      refine q_227g (ER_goq oE1) ?_
      rw [if_pos rfl, e12, p1]
      exact ⟨by (clear hV hW hn h hc hj hns hidx hS hK hQ hE hT h01 s20 m12 hE1 H1 oE oE1 hT1 oT1 o70 p1 xs1 qs1 hq hV' hW'; lia), hq V' hV' hW'⟩
    refine b_104_108 (Tr_mono _) hV hW _ _ _ _ ?_
    refine y_105 oE (by rw [o1_r (by decide)]; (clear hV hW hn h h12 hj hns hK hE hT ha s20 m12 hE1 H1 oE oE1 hT1 oT1 o70 e12 p1 xs1 qs1 toQ; lia)) (fun hb => by rw [gS_e h12]; exact fun e => by cases e) (fun _ _ => ?_) (fun hb h16 => by (clear hV hW hn h hc hj hns hidx hS hK hQ hE hT h01 s20 m12 hE1 H1 oE oE1 hT1 oT1 o70 p1 xs1 qs1 toQ hb; omega))
    rw [nX_o1]
    have wrong : b = 0 → ¬ (28 ≤ o1_ (nX_ M) 70 (a + 1) ∧ o1_ (nX_ M) 70 (a + 1) ≤ 30) → Qt 8 (flX_ (o1_ (nX_ M)) 1 (a + 1)) := fun hb hw => by
      have hsp := SQ_bf oE1 hb (k := 1) (by decide) QA_rf
      exact hQ hb _ (XPb_tr xs1 XPb_fl) (fun G Qtq hg => toQ fun V' hV' hW' => j_241w oT1 oE1 hb hw (q_227s hsp.1 (by rw [if_neg (by decide)]; exact q57s_s hV' hW' hsp.1 (hg _ (SQp_tr qs1 (SQ_P hsp))))))
    have room : b = 0 → 28 ≤ o1_ (nX_ M) 70 (a + 1) → o1_ (nX_ M) 70 (a + 1) ≤ 30 → a + 1 = 1200 → Qt 8 (flX_ (o1_ (nX_ M)) 2 (a + 1)) := fun hb h1 h2 h16 => by
      have hsp := SQ_bf oE1 hb (k := 2) (by decide) QA_rf
      exact hQ hb _ (XPb_tr xs1 XPb_fl) (fun G Qtq hg => toQ fun V' hV' hW' => j_241r oT1 oE1 hb ⟨h1, h2⟩ h16 (fun v => q_227s hsp.1 (by rw [if_neg (by decide)]; exact q57s_s hV' hW' hsp.1 (hg _ (SQp_tr qs1 (SQ_P hsp))))))
    by_cases c3 : j = 3
    · rw [if_pos c3]
      rcases h01 with hb | hb
      · refine x_119 (ER_iX oE1) (fun _ _ e => absurd e (by decide)) (fun hw => ?_) (fun h1 h2 _ => ?_)
        · rw [oE1.2.1] at hw ⊢; exact wrong hb hw
        · rw [oE1.2.1] at h1 h2 ⊢
          by_cases h16 : a + 1 < 1200
          · have hE2 := (ER_go oE1 h16 (by (clear hV hW hn h h12 hc hj hns hidx hS hK hQ hE hT ha s20 m12 hE1 H1 oE oE1 hT1 oT1 o70 e12 p1 xs1 qs1 toQ wrong room c3 hb h16; omega))).1
            have sp2 : sp_ (bf_ (nx_ (q1_ (nx_ N))) 2 (o1_ (nX_ M) 71 (a + 1))) := bf_sp (hE2.2.2.2.2.2.2.2.1.trans hb) (by decide)
            refine hQ hb _ (XPb_tr xs1 XPb_fl) (fun G Qtq hg => toQ fun V' hV' hW' => j_241t oT1 oE1 ⟨h1, h2⟩ h16 (q_227g (ER_goq hE2) ?_))
            rw [if_pos rfl, if_pos c3]
            refine q_231o (hE2.2.2.2.2.2.2.2.2.2.1 hb) (q57s_s hV' hW' sp2 (hg _ ⟨sp2, ?_, ?_, ?_, QPb_tr (QPb_tr qs1 QPb_nx) (QF_P bf_QF)⟩))
            · unfold in9_; rw [bf_6 (by decide) (by decide), hE2.2.2.1]; (clear hV hW hn h hc hj hns hidx hS hK hQ hE hT s20 m12 hE1 H1 oE oE1 hT1 oT1 o70 p1 xs1 qs1 toQ wrong room c3 hb h1 h2 hE2 sp2 hg hV' hW'; omega)
            · unfold bf_ flX_; rw [up_off (by decide), up_at, up_off (by decide), up_at]
            · refine ⟨?_, fl_b7 (by assumption)⟩; unfold bf_ flX_; rw [up_at, up_at]
          · exact room hb h1 h2 (by (clear hV hW hn h hc hj hns hidx hS hK hQ hE hT s20 m12 hE1 H1 oE oE1 hT1 oT1 o70 p1 xs1 qs1 toQ wrong room c3 hb h1 h2; omega))
      · have := hS hb
        rw [c3, SGL_3 ha.1 ha.2] at this
        exact absurd rfl this
    rw [if_neg c3]
    have eS : ∀ gm, SGL (M 70) gm ns (a, j) = (srS (M 70) (a + 1)).bind fun a2 => if gm (3 * ns + j) = M 70 (a + 1) - 28 then (if M 70 a2 = 244 then SGL (M 70) gm ns (a2, j + 1) else (tS (M 70) 241 a2).bind fun a3 => some (a3, j + 1)) else none := fun gm => SGL_e ha.1 h12 c3
    refine y_119 oE1 (fun hb => by rw [o70]; have := hS hb; rw [eS] at this; exact bind_n this) (fun l1 l2 h13 oE2 => ?_) room wrong
    rw [o70] at l1 l2 ⊢
    have hE2 := (ER_go hE1 h13 (by rw [nX_ne (by decide)]; omega)).1
    have H2 : SY0 b F (SGM b (nX_ (nX_ M)) ns j) (nx_ (nx_ N)) (a + 1 + 1) := by
      have e := SGM_E' (ns := ns) (j := j) hE2
      rw [SGM_nX] at e ⊢
      exact SY_go H1 e
    have sr : srS (M 70) (a + 1) = some (a + 1 + 1) := by unfold srS; rw [if_pos ⟨l1, l2⟩, gS_e h13]
    have eS2 : ∀ gm, SGL (M 70) gm ns (a, j) = if gm (3 * ns + j) = M 70 (a + 1) - 28 then (if M 70 (a + 1 + 1) = 244 then SGL (M 70) gm ns (a + 1 + 1, j + 1) else (tS (M 70) 241 (a + 1 + 1)).bind fun a3 => some (a3, j + 1)) else none := fun gm => by rw [eS, sr, Option.bind_some]
    have chk : b = 1 → M 113 (3 * ns + j) = M 70 (a + 1) - 28 := fun hb => by
      have := hS hb
      rw [eS2] at this
      by_cases c : M 113 (3 * ns + j) = M 70 (a + 1) - 28
      · exact c
      · rw [if_neg c] at this; exact absurd rfl this
    rw [nX_o1]
    have y2 : ∀ r : Nat, r ≠ 1 → nX_ (nX_ M) r = M r := fun r h => by rw [nX_ne h, nX_ne h]
    have eX : up_ (o1_ (nX_ (nX_ M))) 113 (3 * ns + j) (M 70 (a + 1) - 28) = o1_ (sgX b (nX_ (nX_ M)) ns j (M 70 (a + 1) - 28)) := by
      unfold sgX
      by_cases hb : b = 0
      · rw [if_pos hb]; unfold o1_; exact up_cc (.inl (by decide))
      · rw [if_neg hb]
        have e : o1_ (nX_ (nX_ M)) 113 (3 * ns + j) = M 70 (a + 1) - 28 := by rw [o1_r (by decide), y2 113 (by decide)]; exact chk (by (clear hV hW hn h hc hns hidx hS hK hQ hE hT s20 m12 hE1 H1 oE oE1 hT1 oT1 o70 p1 xs1 qs1 toQ eS l1 l2 oE2 hE2 H2 sr eS2 y2; lia))
        rw [← e]; exact up_id
    have H3 := sg_SY (v := M 70 (a + 1) - 28) H2 h01 (by rw [y2 5 (by decide)]; exact hns) (by (clear hV hW hn h h12 hc hns hidx hS hK hQ hE hT ha h01 s20 m12 hE1 H1 oE oE1 hT1 oT1 o70 e12 p1 xs1 qs1 toQ wrong room eS l1 l2 h13 oE2 hE2 H2 sr eS2 y2 eX; lia)) (by (clear hV hW hn h h12 hc hj hns hidx hS hK hQ hE hT ha h01 s20 m12 hE1 H1 oE oE1 hT1 oT1 o70 e12 p1 xs1 qs1 toQ wrong room c3 eS h13 oE2 hE2 H2 sr eS2 chk y2 eX; omega))
    have f3 := SGF_tr (SGF_tr (SGF_go (b := b) (ns := ns) (M := M) (N := N)) SGF_go) (sg_SGF (b := b) (ns := ns) (M := nX_ (nX_ M)) (N := nx_ (nx_ N)) (j := j) (v := M 70 (a + 1) - 28) (by omega))
    have k113 : b = 0 → sgX b (nX_ (nX_ M)) ns j (M 70 (a + 1) - 28) 113 (3 * ns + j) = M 70 (a + 1) - 28 := fun hb => by unfold sgX; rw [if_pos hb, up_at]
    have o113 : ∀ i, i ≠ 3 * ns + j → sgX b (nX_ (nX_ M)) ns j (M 70 (a + 1) - 28) 113 i = M 113 i := fun i hi => by
      unfold sgX
      by_cases hb : b = 0
      · rw [if_pos hb, up_of2 hi, y2 113 (by decide)]
      · rw [if_neg hb, y2 113 (by decide)]
    have toQ3 : ∀ {G : mm_ → Prop} {Qtq : qt_}, (∀ V' : vv_, Cl_ wd0 (Tr_ wd0 pg0 (dq + 17)) V' (rv_ G) Qtq m_238 → Wk_ V' → Tr_ wd0 pg0 (dq + 17) 242 [.inr (.inr 6), .inl 44] (q1_ (sgQ b (nx_ (nx_ N)) ns j (M 70 (a + 1) - 28))) (ri_ fun v5 M5 => V' 10 [rr 6, ii idx, ii (j + 1), ii v5, none, none] [] M5) Qtq) → q38 dq idx j N G Qtq := fun hq => toQ fun V' hV' hW' => j_241t oT1 oE1 (by rw [o70]; exact ⟨l1, l2⟩) h13 (q_227g (ER_goq oE2) (by
        rw [if_pos rfl, if_neg c3]
        refine b_238_57 (Tr_mono _) hV' hW' _ _ _ _ _ _ (q_227g (ER_goq oE2) ?_)
        have e16 : nx_ (q1_ (nx_ N)) 6 16 = b := oE2.2.2.2.2.2.2.2.1
        have hq' := hq V' hV' hW'
        rw [if_pos rfl, e16, o70, w32_id (x := j + 1) (by (clear hV hW hn h h12 hc hns hidx hS hK hQ hE hT ha h01 s20 m12 hE1 H1 oE oE1 hT1 oT1 o70 e12 p1 xs1 qs1 toQ wrong room c3 eS l1 l2 h13 oE2 hE2 H2 sr eS2 chk y2 eX H3 f3 k113 o113 hq hV' hW' e16 hq'; omega)) (by (clear hV hW hn h h12 hc hns hidx hS hK hQ hE hT ha h01 s20 m12 hE1 H1 oE oE1 hT1 oT1 o70 e12 p1 xs1 qs1 toQ wrong room c3 eS l1 l2 h13 oE2 hE2 H2 sr eS2 chk y2 eX H3 f3 k113 o113 hq hV' hW' e16 hq'; lia))]
        intro _
        rcases h01 with hb | hb
        · have ei := hidx hb
          rw [if_pos hb, ei, w32_id (x := 3 * ns) (by (clear hV hW hn h h12 hc hj hidx hS hK hQ hE hT ha s20 m12 hE1 H1 oE oE1 hT1 oT1 o70 e12 p1 xs1 qs1 toQ wrong room c3 eS l1 l2 h13 oE2 hE2 H2 sr eS2 chk y2 eX H3 f3 k113 o113 hq hV' hW' e16 hq' hb; lia)) (by (clear hV hW hn h h12 hc hj hidx hS hK hQ hE hT ha m12 hE1 H1 oE oE1 hT1 oT1 o70 e12 p1 xs1 qs1 toQ wrong room c3 eS l1 l2 h13 oE2 hE2 H2 sr eS2 chk y2 eX H3 f3 k113 o113 hq hV' hW' e16 hq' hb; lia)), w32_id (x := 3 * ns + j) (by (clear hV hW hn h h12 hc hidx hS hK hQ hE hT ha s20 m12 hE1 H1 oE oE1 hT1 oT1 o70 e12 p1 xs1 qs1 toQ wrong room c3 eS l1 l2 h13 oE2 hE2 H2 sr eS2 chk y2 eX H3 f3 k113 o113 hq hV' hW' e16 hq' hb; lia)) (by (clear hV hW hn h h12 hc hidx hS hK hQ hE hT ha m12 hE1 H1 oE oE1 hT1 oT1 o70 e12 p1 xs1 qs1 toQ wrong room c3 eS l1 l2 h13 oE2 hE2 H2 sr eS2 chk y2 eX H3 f3 k113 o113 hq hV' hW' e16 hq' hb; lia))]
          refine ⟨by (clear hV hW hn h h12 hc hidx hS hK hQ hE hT ha m12 hE1 H1 oE oE1 hT1 oT1 o70 e12 p1 xs1 qs1 toQ wrong room eS l1 l2 h13 oE2 hE2 H2 sr eS2 y2 eX H3 f3 o113 hq hV' hW' e16 hq'; lia), fun _ => ?_⟩
          rw [if_pos hb]
          refine ⟨by (clear hV hW hn h h12 hc hj hidx hS hK hQ hE hT ha m12 hE1 H1 oE oE1 hT1 oT1 o70 e12 p1 xs1 qs1 toQ wrong room c3 eS l1 l2 h13 oE2 hE2 H2 sr eS2 chk y2 eX H3 f3 k113 o113 hq hV' hW' e16 hq' hb; lia), ?_⟩
          unfold sgQ at hq'
          rw [if_pos hb, ei] at hq'
          rw [nx_q1, up_q1 (by decide), up_q1 (by decide), show M 70 (a + 1) - 27 = M 70 (a + 1) - 28 + 1 by omega]
          exact hq'
        · rw [if_neg (by omega)]
          intro _
          rw [if_neg (by omega), nx_q1]
          unfold sgQ at hq'
          rw [if_neg (by omega)] at hq'
          exact hq'))
    refine b_104_128 (Tr_mono _) hV hW _ _ _ _ _ ?_
    rw [w32_id (x := 3 * ns) (by (clear hV hW hn h h12 hc hj hidx hS hK hQ hE hT ha h01 s20 m12 hE1 H1 oE oE1 hT1 oT1 o70 e12 p1 xs1 qs1 toQ wrong room c3 eS l1 l2 h13 oE2 hE2 H2 sr eS2 chk y2 eX H3 f3 k113 o113 toQ3; omega)) (by omega), w32_id (x := 3 * ns + j) (by omega) (by omega), eX, w32_id (x := j + 1) (by omega) (by omega)]
    refine ⟨by rw [o1_1 (by decide), nX_1 (by decide), nX_1 (by decide)]; exact m12, by (clear hV hW hn h h12 hc hidx hS hK hQ hE hT ha h01 m12 hE1 H1 oE oE1 hT1 oT1 o70 e12 p1 xs1 qs1 toQ wrong room eS l1 l2 h13 oE2 hE2 H2 sr eS2 y2 eX H3 f3 o113 toQ3; lia), ?_⟩
    generalize eM3 : sgX b (nX_ (nX_ M)) ns j (M 70 (a + 1) - 28) = M3 at *
    generalize eN3 : sgQ b (nx_ (nx_ N)) ns j (M 70 (a + 1) - 28) = N3 at *
    have hE3 := SGM_E H3.1.2.1
    have oE3 := ER_o1 hE3
    have oT3 : Tks (o1_ M3) (q1_ N3) := Tks_a (XF_XA o1_XF) (QF_QA q1_QF) (SGM_T H3.1.1)
    have r3 : M3 70 = M 70 := f3.1 70 (by decide) (by decide)
    have r5 : M3 5 = M 5 := f3.1 5 (by decide) (by decide)
    have o3 : o1_ M3 70 = M 70 := by rw [o1_r (by decide)]; exact r3
    have ok1 : ∀ gm : Int → Int, (b = 0 → gm (3 * ns + j) = M3 113 (3 * ns + j)) → (b = 1 → gm = M 113) → gm (3 * ns + j) = M 70 (a + 1) - 28 := fun gm h0 h1 => by
      rcases h01 with hb | hb
      · rw [h0 hb, k113 hb]
      · rw [h1 hb]; exact chk hb
    refine y_117 oE3 (by decide) (fun c => ?_) (fun c => ?_)
    · rw [if_neg (by decide)]
      have c' : M 70 (a + 1 + 1) = 244 := by rw [← o3]; exact c
      have eS3 : ∀ gm : Int → Int, gm (3 * ns + j) = M 70 (a + 1) - 28 → SGL (M 70) gm ns (a, j) = SGL (M 70) gm ns (a + 1 + 1, j + 1) := fun gm hg => by rw [eS2, if_pos hg, if_pos c']
      by_cases h14 : a + 1 + 1 < 1200
      · have q7 : ∀ (G : mm_ → Prop) (Qtq : qt_), q38 dq idx (j + 1) N3 G Qtq → q38 dq idx j N G Qtq := fun G Qtq hq => toQ3 fun V' hV' hW' => j_242t oT3 oE3 (by decide) c h14 (by
          have := hq V' hV' hW'
          rw [← nx_q1] at this
          exact this)
        refine l_108 hV hW n (a + 1 + 1) (j + 1) F M3 N3 (by (clear hV hW h h12 hc hj hns hidx hS hK hQ hE hT ha h01 s20 m12 hE1 H1 oE oE1 hT1 oT1 o70 p1 xs1 qs1 toQ wrong room c3 eS l1 l2 h13 oE2 hE2 H2 sr eS2 chk y2 eM3 eX k113 o113 eN3 toQ3 H3 f3 hE3 oE3 oT3 r3 r5 o3 ok1 c c' eS3 h14 q7; omega)) H3 h14 (.inr (by rw [r3]; exact c')) (by (clear hV hW hn h h12 hc hns hidx hS hK hQ hE hT ha h01 s20 m12 hE1 H1 oE oE1 hT1 oT1 o70 e12 p1 xs1 qs1 toQ wrong room eS l1 l2 h13 oE2 hE2 H2 sr eS2 y2 eM3 eX o113 eN3 toQ3 H3 f3 hE3 oE3 oT3 r3 r5 o3 ok1 c c' eS3 h14 q7; lia)) (by rw [r5]; exact hns) hidx (fun hb => ?_) (fun M' N' a' j' H' ha' hj' f' k' h44 sy hq => ?_) (fun hb Mx' hx' hq => ?_)
        · have := hS hb
          rw [eS3 _ (chk hb)] at this
          rw [r3, (f3.2.2.2.2.2 hb).1 113 (by decide)]; exact this
        · rw [r3] at sy
          refine hK M' N' a' j' H' (by (clear hV hW hn h h12 hc hj hns hidx hS hK hQ hE hT ha h01 s20 m12 hE1 H1 oE oE1 hT1 oT1 o70 p1 xs1 qs1 toQ wrong room c3 eS l1 l2 h13 oE2 hE2 H2 sr eS2 chk y2 eM3 eX k113 o113 eN3 toQ3 H3 f3 hE3 oE3 oT3 r3 r5 o3 ok1 c c' eS3 h14 q7 H' hj' f' k' h44 sy hq; omega)) (by (clear hV hW hn h h12 hc hj hns hidx hS hK hQ hE hT ha h01 s20 m12 hE1 H1 oE oE1 hT1 oT1 o70 e12 p1 xs1 qs1 toQ wrong room c3 eS l1 l2 h13 oE2 hE2 H2 sr eS2 chk y2 eM3 eX k113 o113 eN3 toQ3 H3 f3 hE3 oE3 oT3 r3 r5 o3 ok1 c c' eS3 h14 q7 H' ha' f' k' h44 sy hq; omega)) (SGF_tr f3 f') (fun i hi => by rw [k' i (by (clear hV hW hn h h12 hc hj hns hidx hS hK hQ hE hT ha h01 s20 m12 hE1 H1 oE oE1 hT1 oT1 o70 e12 p1 xs1 qs1 toQ wrong room c3 eS l1 l2 h13 oE2 hE2 H2 sr eS2 chk y2 eM3 eX k113 o113 eN3 toQ3 H3 f3 hE3 oE3 oT3 r3 r5 o3 ok1 c c' eS3 h14 q7 H' ha' hj' f' k' h44 sy hq; lia)), o113 i (by (clear hV hW hn h h12 hc hj hns hidx hS hK hQ hE hT ha h01 s20 m12 hE1 H1 oE oE1 hT1 oT1 o70 e12 p1 xs1 qs1 toQ wrong room c3 eS l1 l2 h13 oE2 hE2 H2 sr eS2 chk y2 eM3 eX k113 o113 eN3 toQ3 H3 f3 hE3 oE3 oT3 r3 r5 o3 ok1 c c' eS3 h14 q7 H' ha' hj' f' k' h44 sy hq; lia))]) h44 (fun gm g0 g1 => ?_) (fun G Qtq hg => q7 G Qtq (hq G Qtq hg))
          rw [eS3 gm (ok1 gm (fun hb => by rw [g0 hb (3 * ns + j) (by (clear hV hW hn h h12 hc hns hidx hS hK hQ hE hT ha h01 s20 m12 hE1 H1 oE oE1 hT1 oT1 o70 e12 p1 xs1 qs1 toQ wrong room c3 eS l1 l2 h13 oE2 hE2 H2 sr eS2 chk y2 eM3 eX k113 o113 eN3 toQ3 H3 f3 hE3 oE3 oT3 r3 r5 o3 ok1 c c' eS3 h14 q7 H' ha' hj' f' k' h44 sy hq g0 g1 hb; lia)) (by (clear hV hW hn h h12 hc hj hns hidx hS hK hQ hE hT ha h01 s20 m12 hE1 H1 oE oE1 hT1 oT1 o70 e12 p1 xs1 qs1 toQ wrong room c3 eS l1 l2 h13 oE2 hE2 H2 sr eS2 chk y2 eM3 eX k113 o113 eN3 toQ3 H3 f3 hE3 oE3 oT3 r3 r5 o3 ok1 c c' eS3 h14 q7 H' ha' f' k' h44 sy hq g0 g1 hb; lia)), k' _ (by (clear hV hW hn h h12 hc hj hns hidx hS hK hQ hE hT ha h01 s20 m12 hE1 H1 oE oE1 hT1 oT1 o70 e12 p1 xs1 qs1 toQ wrong room c3 eS l1 l2 h13 oE2 hE2 H2 sr eS2 chk y2 eM3 eX k113 o113 eN3 toQ3 H3 f3 hE3 oE3 oT3 r3 r5 o3 ok1 c c' eS3 h14 q7 H' ha' hj' f' k' h44 sy hq g0 g1 hb; lia))]) g1)]
          exact sy gm g0 (fun hb => by rw [g1 hb, (f3.2.2.2.2.2 hb).1 113 (by decide)])
        · exact hQ hb Mx' (XPb_tr (SGF_X f3) hx') (fun G Qtq hg => q7 G Qtq (hq G Qtq fun M9 p => hg _ (SQp_tr (SGF_Q f3) p)))
      · rcases h01 with hb | hb
        · refine b_104_108 (Tr_mono _) hV hW _ _ _ _ ?_
          refine y_105 oE3 (by rw [c]; decide) (fun hb1 => by (clear hV hW hn h h12 hc hj hns hidx hS hK hQ hE hT ha s20 m12 hE1 H1 oE oE1 hT1 oT1 o70 e12 p1 xs1 qs1 toQ wrong room c3 eS l1 l2 h13 oE2 hE2 H2 sr eS2 chk y2 eM3 eX k113 o113 eN3 toQ3 H3 f3 hE3 oE3 oT3 r3 r5 o3 ok1 c c' eS3 h14; lia)) (fun h16 _ => by omega) (fun _ h16 => ?_)
          have hsp := SQ_bf oE3 hb (k := 2) (by decide) QA_rf
          exact hQ hb _ (XPb_tr (XPb_tr (SGF_X f3) XPb_o1) XPb_fl) (fun G Qtq hg => toQ3 fun V' hV' hW' => j_242r oT3 oE3 hb (by decide) c h16 (q38_s hV' hW' hsp.1 (hg _ (SQp_tr (QPb_tr (SGF_Q f3) QPb_q1) (SQ_P hsp)))))
        · exfalso
          have := hS hb
          rw [eS3 _ (chk hb)] at this
          exact h14 (SGL_g (by (clear hV hW hn h hc hj hns hidx hS hK hQ hE hT s20 m12 hE1 H1 oE oE1 hT1 oT1 o70 p1 xs1 qs1 toQ wrong room c3 eS l1 l2 oE2 hE2 H2 sr eS2 chk y2 eM3 eX k113 o113 eN3 toQ3 H3 f3 hE3 oE3 oT3 r3 r5 o3 ok1 c c' eS3 hb this; omega)) (by (clear hV hW hn h hc hj hns hidx hS hK hQ hE hT s20 m12 hE1 H1 oE oE1 hT1 oT1 o70 p1 xs1 qs1 toQ wrong room c3 eS l1 l2 oE2 hE2 H2 sr eS2 chk y2 eM3 eX k113 o113 eN3 toQ3 H3 f3 hE3 oE3 oT3 r3 r5 o3 ok1 c c' eS3 hb this; omega)) this)
    · rw [if_pos rfl]
      have c' : ¬ M 70 (a + 1 + 1) = 244 := by rw [← o3]; exact c
      refine hK M3 N3 (a + 1 + 1) j H3 (by omega) (by (clear hV hW hn h h12 hc hns hidx hS hK hQ hE hT ha h01 s20 m12 hE1 H1 oE oE1 hT1 oT1 o70 e12 p1 xs1 qs1 toQ wrong room eS l1 l2 h13 oE2 hE2 H2 sr eS2 y2 eM3 eX o113 eN3 toQ3 H3 f3 hE3 oE3 oT3 r3 r5 o3 ok1; lia)) f3 (fun i hi => o113 i (by (clear hV hW hn h h12 hc hj hns hidx hS hK hQ hE hT ha h01 s20 m12 hE1 H1 oE oE1 hT1 oT1 o70 e12 p1 xs1 qs1 toQ wrong room c3 eS l1 l2 h13 oE2 hE2 H2 sr eS2 chk y2 eM3 eX k113 o113 eN3 toQ3 H3 f3 hE3 oE3 oT3 r3 r5 o3 ok1 c c'; lia))) (by rw [r3]; exact c') (fun gm g0 g1 => ?_) (fun G Qtq hg => toQ3 fun V' hV' hW' => j_242f oT3 oE3 (by decide) c (hg V' hV' hW'))
      rw [eS2, if_pos (ok1 gm (fun hb => g0 hb _ (by (clear hV hW hn h h12 hc hns hidx hS hK hQ hE hT ha h01 s20 m12 hE1 H1 oE oE1 hT1 oT1 o70 e12 p1 xs1 qs1 toQ wrong room c3 eS l1 l2 h13 oE2 hE2 H2 sr eS2 chk y2 eM3 eX k113 o113 eN3 toQ3 H3 f3 hE3 oE3 oT3 r3 r5 o3 ok1 c c' g0 g1 hb; lia)) (by (clear hV hW hn h h12 hc hj hns hidx hS hK hQ hE hT ha h01 s20 m12 hE1 H1 oE oE1 hT1 oT1 o70 e12 p1 xs1 qs1 toQ wrong room c3 eS l1 l2 h13 oE2 hE2 H2 sr eS2 chk y2 eM3 eX k113 o113 eN3 toQ3 H3 f3 hE3 oE3 oT3 r3 r5 o3 ok1 c c' g0 g1 hb; lia))) g1), if_neg c']
end SGx
end T271_sl

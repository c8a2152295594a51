section T161_pl
/-! parts: their items -/
/-- what holds behind a part, seen from an item of it -/
def PGO [Inhabited gh_] (dq n : Nat) (st mk me : Int) (T : vv_ → Prop) (b F : Int) (Mx Mq : mm_) (a : Int) (K0 : Int → mm_ → Prop) : Prop := ∀ F' M' N' a' v c, PRC b F F' Mx Mq M' N' a a' (12 - (n : Int)) (12 - (n : Int)) me → SEM b Mx Mq M' N' v → Mq 6 75 < N' 6 75 → (v = 0 ∨ v = 1) → N' 6 103 = v → ((c = 1 ∧ v = 1) ∨ (c = 0 ∧ ¬ isA (Mx 70) a' ∧ ¬ isL (Mx 70) a'))
  → (∀ lm, LOK b lm Mx M' → LQ (ptT1 (Mx 70) lm (DCj (Mx 70) lm n) (12 - (n : Int))) (a, lc_ b Mx) = some (a', lc_ b M')) → RTq dq st mk me T c N' → K0 v M'
section PL
variable {d dq n : Nat} {b F F' F2 : Int} {Mx Mq M N Ma M1 N1 M2 N2 : mm_} {a a1 a2 o x st mk me x1 x2 x3 x4 x5 x6 v : Int} {K K0 : Int → mm_ → Prop} {Kv : mm_ → Prop} {Qt : qt_} {V : vv_} {T : vv_ → Prop} {κ : Int → Int} {lm : Int → Int → Bool} {dec : sj_ → Option sj_}
/-- a label ahead -/
theorem SEM_lb [Inhabited gh_] (hp : PS b F Mx Mq a o me) (hP1 : PRC b F F' Mx Mq M1 N1 a a1 o o me) (h : (M1 5 3 = Mx 5 3 ∧ N1 6 75 = Mq 6 75 ∧ N1 6 90 = Mq 6 90 ∧ M1 1 21 = Mx 1 21 ∧ M1 1 23 = Mx 1 23 ∧ lc_ b M1 = lc_ b Mx + 1) ∧ (b = 0 → M1 62 (10 * Mx 1 18 + lc_ b Mx) = a) ∧ (b = 1 → N1 6 13 = 0 → Mq 6 13 = 0) ∧ (b = 1 → M1 129 (10 * Mx 1 18 + Mx 1 19) = Mx 5 3 ∧ N1 188 (10 * Mx 1 18 + Mx 1 19) = Mq 6 75))
    (hP2 : PRC b F' F2 M1 N1 M2 N2 a1 a2 o o me) (hlt : N1 6 75 < N2 6 75) (hS : SEM b M1 N1 M2 N2 v) : SEM b Mx Mq M2 N2 v := by
  intro hb h0
  obtain ⟨⟨e53, e75, e90, e21, e23, elc⟩, _, e13, e129⟩ := h
  obtain ⟨q0, sg, sb⟩ := hS hb h0
  obtain ⟨f1, f2⟩ := e129 hb
  have l1 : lc_ b M1 = M1 1 19 := by unfold lc_; rw [if_neg (by omega)]
  have l0 : lc_ b Mx = Mx 1 19 := by unfold lc_; rw [if_neg (by omega)]
  have hT : Mx 1 18 = Mq 6 61 := hp.1.2.1.2.1.symm
  have t18 : M1 1 18 = Mx 1 18 := hP1.2.2.1.1.2.1 18 (by decide)
  have n61 : N1 6 61 = Mq 6 61 := hP1.2.2.1.2.2 61 (by decide)
  have w4 := hP2.2.2.2.1.2.2.2.2
  refine ⟨e13 hb q0, ?_, ?_⟩
  · rw [n61, e75, e53, e90] at sg
    refine SEG_l (j1 := M1 1 19) (by (clear hp hP1 hP2 hS hb h0 e53 e90 e21 e23 elc e13 e129 q0 sg sb f1 l1 l0 hT t18 n61 w4; omega)) (by (clear hp hP1 hP2 hlt hS hb h0 e53 e75 e90 e21 e23 e13 e129 q0 sg sb f1 f2 hT t18 n61 w4; omega)) sg (fun l x y => ?_)
    have el : l = Mx 1 19 := by (clear hp hP1 hP2 hlt hS hb h0 e53 e75 e90 e21 e23 e13 e129 q0 sg sb f1 f2 hT t18 n61 w4; omega)
    have q := w4 (10 * Mx 1 18 + Mx 1 19) (.inl (by rw [t18, l1]; (clear hp hP1 hP2 hlt hS hb h0 e53 e75 e90 e21 e23 e13 e129 q0 sg sb f1 f2 hT t18 n61 w4 x y el; omega)))
    rw [el, ← hT, q.1.2, q.2.2.2.1]
    exact ⟨f1, f2⟩
  · unfold SBS at sb ⊢
    rw [e75, e21, e23] at sb
    exact sb
theorem LQ_pt [Inhabited gh_] {o j : Int} (hd : jc_ dec) (h0 : 0 ≤ a) (h1 : a ≤ 1200) : LQ (ptT1 κ lm dec o) (a, j) = (ptT1 κ lm dec o (a, j)).bind (lk9 (LQ (ptT1 κ lm dec o))) := ptT_u (s := (a, j)) hd h0 h1
/-- a label's place in the text -/
theorem ptT1_n [Inhabited gh_] {o j : Int} (hn : isN κ a) (hl : lm j a = true) (h12 : a + 1 < 1200) : ptT1 κ lm dec o (a, j) = some (.inl (a + 2, j + 1)) := by
  unfold ptT1
  rw [if_pos hn, if_pos hl, gS_e (by omega), Option.bind_some, gS_e h12, Option.bind_some]
  show some (Sum.inl (a + 1 + 1, j + 1)) = some (Sum.inl (a + 2, j + 1))
  rw [show a + 1 + 1 = a + 2 by (clear hn hl h12; lia)]
theorem ptT1_l [Inhabited gh_] {o j : Int} (hn : ¬ isN κ a) (hl : isL κ a) : ptT1 κ lm dec o (a, j) = (laS κ a).bind fun a1 => some (.inr (a1, j)) := by
  unfold ptT1; rw [if_neg hn, if_pos hl]
theorem ptT1_d [Inhabited gh_] {o j : Int} (hn : ¬ isN κ a) (hl : ¬ isL κ a) (hk : κ a = 18) : ptT1 κ lm dec o (a, j) = (dec (a, j)).bind fun s1 => (tS κ 259 s1.1).bind fun a2 => nxT κ (a2, s1.2) := by
  unfold ptT1; rw [if_neg hn, if_neg hl, if_pos hk]
theorem ptT1_a [Inhabited gh_] {o j : Int} (hn : ¬ isN κ a) (hl : ¬ isL κ a) (hk : κ a ≠ 18) (hA : isA κ a) : ptT1 κ lm dec o (a, j) = (acS κ (fun _ => none) o a).bind fun a1 => nxT κ (a1, j) := by
  unfold ptT1; rw [if_neg hn, if_neg hl, if_neg hk, if_pos hA]
theorem ptT1_w [Inhabited gh_] {o j : Int} (hn : ¬ isN κ a) (hl : ¬ isL κ a) (hA : ¬ isA κ a) : ptT1 κ lm dec o (a, j) = none := by
  unfold ptT1; rw [if_neg hn, if_neg hl, if_neg (show ¬ κ a = 18 by omega), if_neg hA]
theorem nxT_1 [Inhabited gh_] {s : sj_} (h : isA κ s.1 ∨ isL κ s.1) : nxT κ s = some (.inl s) := by unfold nxT; rw [if_pos h]
theorem nxT_0 [Inhabited gh_] {s : sj_} (h1 : ¬ isA κ s.1) (h2 : ¬ isL κ s.1) : nxT κ s = some (.inr s) := by unfold nxT; rw [if_neg (fun h => h.elim h1 h2)]
/-- the memory where an item begins -/
theorem PXL_2 [Inhabited gh_] (hp : PS b F Mx Mq a o me) : PXL b Mx (pX_ (pX_ Mx 30) (Mx 71 a)) [Mx 71 a, 30] := by
  have hE := PS_E hp
  have h8 := hE.2.2.2.2.2.2.1
  exact PXL_1 h8 (bl01 hE) (PXL_1 h8 (bl01 hE) PXL_0)
theorem TA_a [Inhabited gh_] (hp : PS b F Mx Mq a o me) (hP : PXL b Mx Ma [Mx 71 a, 30]) : TA b F Ma Mq a o ∧ GT b F Ma Mq (Ma 71 a) ∧ ER b F Ma Mq a o ∧ stt9 Ma Mq ∧ lbl9 Ma Mq := by
  have hE := PS_E hp
  have ha := ER_a hE
  have s0 := hp.2.2.2.2.2.2.2.2.2.2
  have st0 := ER_st hE
  obtain ⟨p1, p2, p3, p4, p5, p6, p7⟩ := hP
  have len : ((([Mx 71 a, 30] : List Int).length : Nat) : Int) = 2 := rfl
  rw [len] at p7
  have xa := XF_XA p1
  have hE' : ER b F Ma Mq a o := ER_X3 hE (XF_70 p1 (by decide) (by decide) (by decide)) p2 (by omega)
  have e71 : Ma 71 = Mx 71 := XF_70 p1 (by decide) (by decide) (by decide)
  refine ⟨⟨Tks_a xa QA_rf hp.1.1, VT_a xa QA_rf hp.1.2.1, hE', hp.1.2.2.2.1, hp.1.2.2.2.2.1, by (clear hp hE ha st0 p1 p2 p3 p4 p5 len xa hE' e71; lia)⟩, by rw [e71]; exact GT_a xa QA_rf hp.2.1, hE', stt9_a xa QA_rf hp.2.2.2.1, ?_⟩
  exact (LBT_c hp.2.2.1 xa QA_rf (XF_70 p1 (by decide) (by decide) (by decide)) (XF_70 p1 (by decide) (by decide) (by decide)) rfl rfl rfl (Int.le_refl _)).1
end PL
end T161_pl
section T162_pl
/-! parts: a last, an act -/
section PM
variable {d dq n : Nat} {b F F' F2 : Int} {Mx Mq M N Ma M1 N1 M2 N2 MX MQ Mx' : mm_} {a a1 a2 a' o x st mk me x1 x2 x3 x4 x5 x6 v w : Int} {K K0 : Int → mm_ → Prop} {Kv : mm_ → Prop} {Qt : qt_} {V : vv_} {T : vv_ → Prop}
/-- Q's point T lies ahead of the labels of an item -/
def T92 (dq : Nat) (st mk me x6 : Int) (Mq : mm_) (T : vv_ → Prop) : Prop := ∀ (V : vv_) (Kv : mm_ → Prop) (Qt : qt_), Cl_ wd0 (Tr_ wd0 pg0 (dq + 15)) V (rv_ Kv) Qt m_260 → Wk_ V → V 92 [rr 6, ii st, ii mk, ii me, ii 0, ii 1, ii x6] [] Mq → T V
theorem lc_XC [Inhabited gh_] (hP : PXL b Mx Ma [Mx 71 a, 30]) (h62 : MX 62 = Ma 62) (h128 : MX 128 = Ma 128) (h18 : MX 1 18 = Ma 1 18) (h19 : MX 1 19 = Ma 1 19) (hC : XC MX Mx') : LKP b Mx Mx' ∧ lc_ b Mx' = lc_ b Mx := by
  refine LKP_X ?_ ?_ ?_ ?_
  · rw [hC.1 62 (by decide), h62, XF_70 hP.1 (by decide) (by decide) (by decide)]
  · rw [hC.1 128 (by decide), h128, XF_70 hP.1 (by decide) (by decide) (by decide)]
  · rw [hC.2.1 18 (by decide), h18, hP.2.1]
  · rw [hC.2.1 19 (by decide), h19, hP.2.1]
theorem LM_k [Inhabited gh_] (h : LM b Mx Mq me MX MQ) : MX 62 = Mx 62 ∧ MX 128 = Mx 128 ∧ MX 1 = Mx 1 ∧ MQ 6 = Mq 6 := by
  rcases h with ⟨h1, h2⟩ | ⟨_, k, _, ⟨_, h1, h2⟩ | ⟨_, h1, h2⟩⟩
  · rw [h1, h2]; exact ⟨rfl, rfl, rfl, rfl⟩
  · rw [h1, h2]; refine ⟨?_, ?_, ?_, ?_⟩ <;> rw [up_ne (by decide)]
  · rw [h1, h2]; refine ⟨?_, ?_, ?_, ?_⟩ <;> rw [up_ne (by decide)]
theorem SM_k [Inhabited gh_] (h : SM Mx MX w v) : MX 62 = Mx 62 ∧ MX 128 = Mx 128 ∧ MX 1 18 = Mx 1 18 ∧ MX 1 19 = Mx 1 19 := by
  unfold SM at h
  rcases h with ⟨h1, _⟩ | h
  · rw [h1]; exact ⟨rfl, rfl, rfl, rfl⟩
  · rcases h with ⟨_, _, h⟩ | ⟨_, _, h⟩
    · rw [h]; exact ⟨up_ne (by decide), up_ne (by decide), up_off (by decide), up_off (by decide)⟩
    · rw [h]; exact ⟨up_ne (by decide), up_ne (by decide), up_off (by decide), up_off (by decide)⟩
theorem y_133a [Inhabited gh_] (hp : PS b F Mx Mq a (12 - (n : Int)) me) (hP : PXL b Mx Ma [Mx 71 a, 30]) (hn : ¬ isN (Mx 70) a) (hl : isL (Mx 70) a) (hT92 : T92 dq st mk me x6 Mq T)
    (hS : b = 1 → LQ (ptT1 (Mx 70) (LMT Mx) (DCj (Mx 70) (LMT Mx) n) (12 - (n : Int))) (a, lc_ b Mx) ≠ none)
    (hG : PGO dq n st mk me T b F Mx Mq a K0) (hQ : b = 0 → ∀ Mx', XA Mx Mx' → STT dq T Mq Mx' → Qt 8 Mx') : Tr_ wd0 pg0 (d + 8) 140 [.inr (.inr 1)] Ma (rv_ (K0 1)) Qt := by
  obtain ⟨tA, tG, tE, t9, l9⟩ := TA_a hp hP
  have hE := PS_E hp
  have hT := hp.1.1
  have ha := ER_a hE
  have xa := XF_XA hP.1
  have a70 : Ma 70 = Mx 70 := XF_70 hP.1 (by decide) (by decide) (by decide)
  obtain ⟨u1, u2, u3⟩ := hp.2.2.2.2.1
  have eS : ∀ lm, LQ (ptT1 (Mx 70) lm (DCj (Mx 70) lm n) (12 - (n : Int))) (a, lc_ b Mx) = ((laS (Mx 70) a).bind fun a1 => some (Sum.inr (a1, lc_ b Mx))).bind (lk9 (LQ (ptT1 (Mx 70) lm (DCj (Mx 70) lm n) (12 - (n : Int))))) := fun lm => by
    have e := LQ_pt (κ := Mx 70) (lm := lm) (o := 12 - (n : Int)) (j := lc_ b Mx) (jw_PTj (κ := Mx 70) (lm := lm) n).2 ha.1 ha.2
    rw [ptT1_l hn hl] at e
    exact e
  have toQ : ∀ (V : vv_) (Kv : mm_ → Prop) (Qt : qt_), Cl_ wd0 (Tr_ wd0 pg0 (dq + 15)) V (rv_ Kv) Qt m_260 → Wk_ V → Tr_ wd0 pg0 (dq + 15) 264 [.inr (.inr 6), .inl me] Mq (rv_ fun M3 => V 77 (LSz st mk me 1) [] (up_ M3 6 103 1)) Qt → T V := fun V Kv Qtq hV hW h => hT92 V Kv Qtq hV hW (q_92 (d := dq + 14) hT hE (fun _ => hn) (fun _ h => by (clear hp hP hn hT92 hG tA tG tE t9 l9 hE hT ha xa a70 u1 u2 eS hV hW; lia)) hV hW (q_122l (d := dq + 13) hT hE hl hV hW h))
  refine y_140a (dq := dq + 9) (me := me) tA l9 t9 (by rw [hP.2.1]; exact u1) u2 (fun hb => by rw [hP.2.1, XF_70 hP.1 (by decide) (by decide) (by decide)]; exact u3 hb) (by rw [a70]; (clear hp hP hn hT92 hG tA tG tE t9 l9 hE hT ha xa a70 u1 u2 eS toQ; lia)) (fun hb => by rw [a70]; have := hS hb; rw [eS] at this; exact bind_n (bind_n this)) (fun MX MQ Mx' Mq' a' w hLM hw hAR hla hq => ?_) (fun hb Mx' hx hq => ?_)
  · obtain ⟨P, S⟩ := LA_P hp hP hLM (by omega) hAR
    have k := LM_k hLM
    have lk := lc_XC hP k.1 k.2.1 (by rw [k.2.2.1]) (by rw [k.2.2.1]) hAR.2.1
    have e75 : Mq' 6 75 = Mq 6 75 + 1 := by rw [hAR.2.2.2.2.1, k.2.2.2]
    have p1 := PS_tr hp P (Int.le_refl _)
    rw [a70] at hla
    refine hG F Mx' (up_ Mq' 6 103 1) a' 1 1 (PRC_tr hp.1.2.2.2.1.1 P (PRC_103 p1)) (SEM_103 S) (by rw [up_off (by decide)]; (clear hp hP hn hl hT92 hS hG hQ tA tG tE t9 l9 hE hT ha xa a70 u1 u2 u3 eS toQ hLM hw hAR hla hq P S k lk p1; omega)) (.inr rfl) up_at (.inl ⟨rfl, rfl⟩) (fun lm _ => ?_) (fun V Kv Qtq hV hW hk => toQ V Kv Qtq hV hW (hq _ _ hk))
    rw [eS lm, hla, Option.bind_some, lk.2]
    rfl
  · exact hQ hb Mx' (XA_tr xa hx) (fun V Kv Qtq hV hW hk => toQ V Kv Qtq hV hW (hq _ _ fun M' hsq => q_260s77 hV hW (SQ_103 hsq) hk))
end PM
end T162_pl
section T163_pl
/-! parts: acts and decides as items -/
/-- what holds behind an act or a decide -/
def ITM [Inhabited gh_] (dq n : Nat) (st mk me : Int) (T : vv_ → Prop) (b F : Int) (Mx Mq : mm_) (a : Int) (G : Int → mm_ → Prop) : Prop := ∀ F1 M7 N7 a1 v, PRC b F F1 Mx Mq M7 N7 a a1 (12 - (n : Int)) (12 - (n : Int)) me → SEM b Mx Mq M7 N7 v → Mq 6 75 < N7 6 75 → (v = 0 ∨ v = 1) → N7 6 103 = v
  → (∀ lm, LOK b lm Mx M7 → ptT1 (Mx 70) lm (DCj (Mx 70) lm n) (12 - (n : Int)) (a, lc_ b Mx) = nxT (Mx 70) (a1, lc_ b M7)) → RTq dq st mk me T 0 N7 → G v M7
section PI
variable {d dq n : Nat} {b F F' F2 : Int} {Mx Mq M N Ma M1 N1 M2 N2 MX MQ Mx' : mm_} {a a1 a2 a' o x st mk me x1 x2 x3 x4 x5 x6 v w : Int} {K K0 G : Int → mm_ → Prop} {Kv : mm_ → Prop} {Qt : qt_} {V : vv_} {T : vv_ → Prop} {κ : Int → Int} {lm : Int → Int → Bool}
theorem y_133b [Inhabited gh_] (hn12 : n ≤ 12) (hp : PS b F Mx Mq a (12 - (n : Int)) me) (hP : PXL b Mx Ma [Mx 71 a, 30]) (hn : ¬ isN (Mx 70) a) (hl : ¬ isL (Mx 70) a) (hk : Mx 70 a ≠ 18) (hA : isA (Mx 70) a) (hz : b = 0 → Mx 70 a = 100 → a < 1200) (hT92 : T92 dq st mk me x6 Mq T)
    (hS : b = 1 → ptT1 (Mx 70) (LMT Mx) (DCj (Mx 70) (LMT Mx) n) (12 - (n : Int)) (a, lc_ b Mx) ≠ none)
    (hG : ITM dq n st mk me T b F Mx Mq a G) (hQ : b = 0 → ∀ Mx', XA Mx Mx' → STT dq T Mq Mx' → Qt 8 Mx') : Tr_ wd0 pg0 (9 * n + 17) 143 [.inr (.inr 1)] Ma (ri_ G) Qt := by
  obtain ⟨tA, tG, tE, t9, l9⟩ := TA_a hp hP
  have hE := PS_E hp
  have hT := hp.1.1
  have ha := ER_a hE
  have xa := XF_XA hP.1
  have a70 : Ma 70 = Mx 70 := XF_70 hP.1 (by decide) (by decide) (by decide)
  have toQ : (Mx 70 a = 100 → a < 1200) → ∀ (V : vv_) (Kv : mm_ → Prop) (Qt : qt_), Cl_ wd0 (Tr_ wd0 pg0 (dq + 15)) V (rv_ Kv) Qt m_260 → Wk_ V → Tr_ wd0 pg0 (dq + 15) 296 [.inr (.inr 6)] Mq (rv_ fun M3 => V 77 (LSz st mk me 0) [] (up_ M3 6 103 0)) Qt → T V := fun h12 V Kv Qtq hV hW h => hT92 V Kv Qtq hV hW (q_92 (d := dq + 14) hT hE (fun _ => hn) (fun _ => h12) hV hW (q_158 (d := dq + 13) hT hE (fun _ => hl) hV hW (q_158a (d := dq + 13) hT hE hk hA hV hW h)))
  refine y_143a (dq := dq) (dec := fun _ => none) hn12 rfl tA tG (by rw [a70]; (clear hn12 hp hP hn hl hT92 hG tA tG tE t9 l9 hE hT ha xa a70; lia)) (fun hb => by rw [a70]; have := hS hb; rw [ptT1_a hn hl hk hA] at this; exact bind_n this) (fun MX Mx' Mq' a' w v hSM hw hAR hac hq => ?_) (fun hb Mx' hx hq => ?_)
  · obtain ⟨P, S⟩ := AR_P hp hP hSM (by (clear hn12 hp hP hn hl hk hA hz hT92 hS hG hQ tA tG tE t9 l9 hE hT ha xa a70 toQ hSM hAR hac hq; omega)) hAR
    have k := SM_k hSM
    have lk := lc_XC hP k.1 k.2.1 k.2.2.1 k.2.2.2 hAR.2.1
    have e75 : Mq' 6 75 = Mq 6 75 + 1 := hAR.2.2.2.2.1
    have a12 : a < 1200 := by have := hAR.1; have := (ER_a hAR.2.2.2.1).2; (clear hn12 hp hP hn hl hk hA hz hT92 hS hG hQ tA tG tE t9 l9 hE hT xa a70 toQ hSM hw hAR hac hq P S k lk e75; omega)
    have p1 := PS_tr hp P (Int.le_refl _)
    rw [a70] at hac
    refine hG F Mx' (up_ Mq' 6 103 0) a' 0 (PRC_tr hp.1.2.2.2.1.1 P (PRC_103 p1)) (SEM_103 S) (by rw [up_off (by decide)]; (clear hn12 hp hP hn hl hk hA hz hT92 hS hG hQ tA tG tE t9 l9 hE hT ha xa a70 toQ hSM hw hAR hac hq P S k lk a12 p1; omega)) (.inl rfl) up_at (fun lm _ => ?_) (fun V Kv Qtq hV hW hk => toQ (fun _ => a12) V Kv Qtq hV hW (hq _ _ hk))
    rw [ptT1_a hn hl hk hA, hac, Option.bind_some, lk.2]
  · exact hQ hb Mx' (XA_tr xa hx) (fun V Kv Qtq hV hW hk => toQ (hz hb) V Kv Qtq hV hW (hq _ _ fun M' hsq => q_260s77 hV hW (SQ_103 hsq) hk))
theorem ptT1_v [Inhabited gh_] {j : Int} (hn : ¬ isN κ a) (hl : ¬ isL κ a) (hk : κ a = 18) : ptT1 κ lm (DCj κ lm n) o (a, j) = (dcV κ lm n (a, j)).bind (nxT κ) := by
  rw [ptT1_d hn hl hk]
  unfold dcV
  cases DCj κ lm n (a, j) with
  | none => rfl
  | some s1 =>
    rw [Option.bind_some, Option.bind_some]
    cases tS κ 259 s1.1 with
    | none => rfl
    | some a2 => rw [Option.bind_some, Option.bind_some, Option.bind_some]
theorem y_133d [Inhabited gh_] (hsd : SDEC dq n) (hp : PS b F Mx Mq a (12 - (n : Int)) me) (hP : PXL b Mx Ma [Mx 71 a, 30]) (hn : ¬ isN (Mx 70) a) (hl : ¬ isL (Mx 70) a) (hk : Mx 70 a = 18) (hT92 : T92 dq st mk me x6 Mq T)
    (hS : b = 1 → ptT1 (Mx 70) (LMT Mx) (DCj (Mx 70) (LMT Mx) n) (12 - (n : Int)) (a, lc_ b Mx) ≠ none)
    (hG : ITM dq n st mk me T b F Mx Mq a G) (hQ : b = 0 → ∀ Mx', XA Mx Mx' → STT dq T Mq Mx' → Qt 8 Mx') : Tr_ wd0 pg0 (9 * n + 17) 143 [.inr (.inr 1)] Ma (ri_ G) Qt := by
  obtain ⟨tA, tG, tE, t9, l9⟩ := TA_a hp hP
  have hE := PS_E hp
  have hT := hp.1.1
  have a70 : Ma 70 = Mx 70 := XF_70 hP.1 (by decide) (by decide) (by decide)
  refine t_143 fun V hV hW => b_143_0 (Tr_mono _) hV hW Ma ?_
  refine y_103 tE (fun c => by rw [a70] at c; omega) (fun _ => ?_)
  rw [if_pos rfl]
  refine y_103 tE (fun c => by rw [a70] at c; (clear hsd hp hP hn hl hT92 hS hG hQ tA tG tE t9 l9 hE hT a70 hV hW; lia)) (fun _ => ?_)
  rw [if_pos rfl]
  refine y_103 tE (fun c => by rw [a70] at c; omega) (fun _ => ?_)
  rw [if_pos rfl]
  refine y_103 tE (fun c => by rw [a70] at c; omega) (fun _ => ?_)
  rw [if_pos rfl]
  refine y_103 tE (fun c => by rw [a70] at c; omega) (fun _ => ?_)
  rw [if_pos rfl]
  refine hsd b F Mx Mq Ma a me st mk T (fun v M7 => bl_ v ∧ ri_ G [.inl v] M7) Qt hp hP hk (fun hb => ?_) (fun F2 M6 N6 a6 v P S hlt hv h3 hsy hrt => ?_) hQ (fun V Kv Qtq hV hW h => ?_)
  · have := hS hb
    rw [ptT1_v hn hl hk] at this
    exact bind_n this
  · refine ⟨hv, ri_i (hG F2 M6 N6 a6 v P S hlt hv h3 (fun lm hlm => ?_) hrt)⟩
    rw [ptT1_v hn hl hk, hsy lm hlm, Option.bind_some]
  · exact hT92 V Kv Qtq hV hW (q_92 (d := dq + 14) hT hE (fun _ => hn) (fun _ h => by (clear hsd hp hP hn hl hT92 hS hG hQ tA tG tE t9 l9 hE hT a70 hV hW; omega)) hV hW (q_158 (d := dq + 13) hT hE (fun _ => hl) hV hW (q_158d (d := dq + 13) hT hE hk hV hW h)))
end PI
end T163_pl
section T164_pp
/-! parts: the loop -/
section PP
variable {d dq n : Nat} {b F F' F2 : Int} {Mx Mq M N Ma M1 N1 M2 N2 MX MQ Mx' : mm_} {a a1 a2 a' o x st mk me x1 x2 x3 x4 x5 x6 v w : Int} {K K0 G : Int → mm_ → Prop} {Kv : mm_ → Prop} {Qt : qt_} {V : vv_} {T : vv_ → Prop} {κ : Int → Int} {lm : Int → Int → Bool}
/-- what the syntax says from here -/
def LPT (n : Nat) (κ : Int → Int) (lm : Int → Int → Bool) (s : sj_) : Option sj_ := LQ (ptT1 κ lm (DCj κ lm n) (12 - (n : Int))) s
theorem LPT_u [Inhabited gh_] {j : Int} (h0 : 0 ≤ a) (h1 : a ≤ 1200) : LPT n κ lm (a, j) = (ptT1 κ lm (DCj κ lm n) (12 - (n : Int)) (a, j)).bind (lk9 (LPT n κ lm)) := LQ_pt (jw_PTj (κ := κ) (lm := lm) n).2 h0 h1
theorem hQ_1 [Inhabited gh_] (hP : PRC b F F' Mx Mq M1 N1 a a1 o o me) (hQ : b = 0 → ∀ Mx', XA Mx Mx' → STT dq T Mq Mx' → Qt 8 Mx') : b = 0 → ∀ Mx', XA M1 Mx' → STT dq T N1 Mx' → Qt 8 Mx' := fun hb Mx' hx hs => hQ hb Mx' (XA_tr hP.2.2.1.1 hx) (fun V Kv Qtq hV hW hk => hs V Kv Qtq hV hW (fun M' hsq => hk M' (SQ_q hP.2.2.1.2 hsq)))
/-- a step more: what is owed from there -/
theorem PGO_1 [Inhabited gh_] (hp : PS b F Mx Mq a (12 - (n : Int)) me) (hP : PRC b F F' Mx Mq M1 N1 a a1 (12 - (n : Int)) (12 - (n : Int)) me) (hS : SEM b Mx Mq M1 N1 w)
    (hsy : ∀ lm, LOK b lm Mx M1 → LPT n (Mx 70) lm (a, lc_ b Mx) = LPT n (Mx 70) lm (a1, lc_ b M1)) (hG : PGO dq n st mk me T b F Mx Mq a K0) : PGO dq n st mk me T b F' M1 N1 a1 K0 := by
  intro F2 M2 N2 a2 v c P S hlt hv h3 hc hs hrt
  have e70 : M1 70 = Mx 70 := hP.2.2.1.1.1 70 (by decide)
  rw [e70] at hc
  refine hG F2 M2 N2 a2 v c (PRC_tr hp.1.2.2.2.1.1 hP P) (SEM_tr hp hP P hS S) (by have := hP.2.2.2.2.1.2.1.1; omega) hv h3 hc (fun lm hlm => ?_) hrt
  have q := LOK_s (LKP_P hP) (LKP_P P) hlm
  have e := hs lm q.2
  rw [e70] at e
  exact (hsy lm q.1).trans e
theorem ITM_lt [Inhabited gh_] (hE : ER b F Mx Mq a o) (hsy : ∀ lm, LOK b lm Mx M1 → ptT1 (Mx 70) lm (DCj (Mx 70) lm n) (12 - (n : Int)) (a, lc_ b Mx) = nxT (Mx 70) (a1, lc_ b M1)) : a + 1 ≤ a1 := by
  have ha := ER_a hE
  have main : ∀ lm, LOK b lm Mx M1 → a + 1 ≤ a1 := fun lm hlm => by
    have e := hsy lm hlm
    by_cases c : isA (Mx 70) a1 ∨ isL (Mx 70) a1
    · rw [nxT_1 c] at e
      exact (ptT1_b (jw_PTj (κ := Mx 70) (lm := lm) n).2 (a, lc_ b Mx) _ ha.1 ha.2 e (a1, lc_ b M1) (.inl rfl)).1
    · rw [nxT_0 (fun h => c (.inl h)) (fun h => c (.inr h))] at e
      exact (ptT1_b (jw_PTj (κ := Mx 70) (lm := lm) n).2 (a, lc_ b Mx) _ ha.1 ha.2 e (a1, lc_ b M1) (.inr rfl)).1
  rcases bl01 hE with hb | hb
  · exact main (fun _ _ => true) ⟨fun _ _ _ _ => rfl, fun h => by omega⟩
  · exact main (LMT Mx) (LOK_1 hb)
theorem y_133s [Inhabited gh_] (hn12 : n ≤ 12) (hsd : SDEC dq n) (hV : Cl_ wd0 (Tr_ wd0 pg0 (9 * n + 18)) V (ri_ K0) Qt m_133) (hW : Wk_ V) (hp : PS b F Mx Mq a (12 - (n : Int)) me) (hT92 : T92 dq st mk me x6 Mq T) (hx6 : (x6 = 0 ∧ (isA (Mx 70) a ∨ isL (Mx 70) a)) ∨ x6 = 1)
    (hS : b = 1 → LPT n (Mx 70) (LMT Mx) (a, lc_ b Mx) ≠ none)
    (hG : PGO dq n st mk me T b F Mx Mq a K0) (hQ : b = 0 → ∀ Mx', XA Mx Mx' → STT dq T Mq Mx' → Qt 8 Mx')
    (ih : ∀ F1 M1 N1 a1 y1 y6, a < a1 → PS b F1 M1 N1 a1 (12 - (n : Int)) me → T92 dq st mk me y6 N1 T → ((y6 = 0 ∧ (isA (M1 70) a1 ∨ isL (M1 70) a1)) ∨ y6 = 1) → (b = 1 → LPT n (M1 70) (LMT M1) (a1, lc_ b M1) ≠ none) → PGO dq n st mk me T b F1 M1 N1 a1 K0 → (b = 0 → ∀ Mx', XA M1 Mx' → STT dq T N1 Mx' → Qt 8 Mx') → V 11 [rr 1, ii y1, ii 1, none] [] M1) :
    V 11 [rr 1, ii x1, ii 1, none] [] Mx := by
  have hE := PS_E hp
  have hT := hp.1.1
  have ha := ER_a hE
  have h01 := bl01 hE
  have st0 := ER_st hE
  have s53 := hp.2.2.2.2.2.2.2.2.2.2
  have h12 := hp.1.2.1.1
  have hfl := hp.2.2.2.2.2.1
  have hS1 : b = 1 → ptT1 (Mx 70) (LMT Mx) (DCj (Mx 70) (LMT Mx) n) (12 - (n : Int)) (a, lc_ b Mx) ≠ none := fun hb => by have := hS hb; rw [LPT_u ha.1 ha.2] at this; exact bind_n this
  refine b_133_11 (Tr_mono _) hV hW _ _ _ ?_
  refine y_136 hE (fun hn => ?_) (fun hn => ?_)
  · -- a label
    rw [if_neg (by decide)]
    have step : ∀ F' M1 N1, LBR b F F' Mx Mq M1 N1 a (12 - (n : Int)) me → a + 1 < 1200 → (b = 1 → LMT Mx (lc_ b Mx) a = true) → (∀ (Kv : mm_ → Prop) (Qtq : qt_), Kv N1 → Tr_ wd0 pg0 (dq + 11 + 4) 262 [.inr (.inr 6), .inl me] Mq (rv_ Kv) Qtq) → V 11 [rr 1, ii x1, ii 1, none] [] M1 := by
      intro F' M1 N1 hL a12 hlm hq
      obtain ⟨P, L⟩ := LB_P hp (fun hb => by have q := of_decide_eq_true (hlm hb); have e : lc_ b Mx = Mx 1 19 := by (unfold lc_; rw [if_neg (by omega)])
                                             rw [e] at q; exact q.2.1) hL
      have p1 := PS_tr hp P (Int.le_refl _)
      have e70 : M1 70 = Mx 70 := P.2.2.1.1.1 70 (by decide)
      have lt62 : ∀ lm, LOK b lm Mx M1 → lm (lc_ b Mx) a = true := fun lm h => by
        rcases h01 with hb | hb
        · have q := h.1 hb (lc_ b Mx) (Int.le_refl _) (by rw [L.1.2.2.2.2.2]; omega)
          rw [L.2.1 hb] at q; exact q
        · rw [h.2 hb]; exact hlm hb
      have sy : ∀ lm, LOK b lm Mx M1 → LPT n (Mx 70) lm (a, lc_ b Mx) = LPT n (Mx 70) lm (a + 2, lc_ b M1) := fun lm h => by
        have e := LPT_u (n := n) (κ := Mx 70) (lm := lm) (j := lc_ b Mx) ha.1 ha.2
        rw [ptT1_n hn (lt62 lm h) a12, Option.bind_some, ← L.1.2.2.2.2.2] at e
        exact e
      refine ih F' M1 N1 (a + 2) x1 1 (by omega) p1 (fun V Kv Qtq hV hW h => hT92 V Kv Qtq hV hW (q_92l (d := dq + 14) hT hE hn (by omega) hV hW (hq _ _ h))) (.inr rfl) (fun hb => ?_) ?_ (hQ_1 P hQ)
      · rw [e70, show LMT M1 = LMT Mx from (LKP_P P).2.2.2 hb, ← sy _ (LOK_1 hb)]
        exact hS hb
      · intro F2 M2 N2 a2 v c P2 S2 hlt hv h3 hc hs hrt
        rw [e70] at hc
        refine hG F2 M2 N2 a2 v c (PRC_tr hp.1.2.2.2.1.1 P P2) (SEM_lb hp P L P2 hlt S2) (by have := L.1.2.1; (clear hn12 hsd hV hW hp hT92 hx6 hS hG hQ ih hE hT ha h01 st0 s53 h12 hfl hS1 hn hL a12 hlm hq P p1 e70 lt62 sy P2 S2 hv h3 hc hs hrt this; omega)) hv h3 hc (fun lm hlm2 => ?_) hrt
        have q := LOK_s (LKP_P P) (LKP_P P2) hlm2
        have e := hs lm q.2
        rw [e70] at e
        exact (sy lm q.1).trans e
    rcases h01 with hb | hb
    · by_cases c12 : a = 1200
      · refine Tr_le (d := 3) (by (clear hsd hV hW hp hT92 hx6 hS hG hQ ih hE hT ha st0 s53 h12 hfl hS1 hn step hb c12; lia)) (y_137z (d := 0) hp.1 hb hp.2.2.1 hn.1 c12 (fun Mx' hx e4 e5 => hQ hb Mx' hx (fun V Kv Qtq hV hW hk => hT92 V Kv Qtq hV hW (q_92z (d := dq + 9) hT hE hb hn.1 c12 QA_rf e4 e5 hV hW hk))))
      · refine Tr_le (d := 3) (by omega) (y_137p (d := 0) (dq := dq + 11) hp.1 hb hp.2.2.1 hn.1 hn.2 (by (clear hn12 hsd hV hW hp hT92 hx6 hS hG hQ ih hE hT st0 s53 h12 hfl hS1 hn step hb; omega)) (by omega) (fun F' Mx' Mq' hL a12 hq => step F' Mx' Mq' hL a12 (fun h => by omega) hq) (fun Mx' hx hq => hQ hb Mx' hx (fun V Kv Qtq hV hW hk => hT92 V Kv Qtq hV hW (q_92l (d := dq + 14) hT hE hn (by omega) hV hW (hq _ _ fun M' hsq => q_260s92 hV hW hsq hk)))))
    · have q := hS1 hb
      unfold ptT1 at q
      rw [if_pos hn] at q
      by_cases cl : LMT Mx (lc_ b Mx) a = true
      · rw [if_pos cl] at q
        have g1 : a < 1200 := gS_n (bind_n q)
        rw [gS_e g1, Option.bind_some] at q
        have g2 : a + 1 < 1200 := gS_n (bind_n q)
        have qd := of_decide_eq_true cl
        have el : lc_ b Mx = Mx 1 19 := by unfold lc_; rw [if_neg (by omega)]
        rw [el] at qd
        exact Tr_le (d := 3) (by omega) (y_137q (d := 0) (dq := dq + 11) hp.1 hb hp.2.2.1 hn.1 hn.2 g2 hp.2.2.2.2.1.1 ⟨qd.1, qd.2.1⟩ qd.2.2 (fun Mx' Mq' hL hq => step F Mx' Mq' hL g2 (fun _ => cl) hq))
      · rw [if_neg cl] at q
        exact absurd rfl q
  · rw [if_pos rfl]
    refine y_134 hE (fun hAL => ?_) (fun nA nL => ?_)
    rotate_left
    · -- nothing behind a label
      rw [if_pos rfl]
      have e6 : x6 = 1 := by
        rcases hx6 with ⟨_, h | h⟩ | h
        · exact absurd h nA
        · exact absurd h nL
        · exact h
      have hb : b = 0 := by
        rcases h01 with hb | hb
        · exact hb
        · exact absurd (ptT1_w hn nL nA) (hS1 hb)
      obtain ⟨g1, g2, g3, g4, g5, g6⟩ := ER_k hT hE
      refine x_109 (by unfold iX_; rw [hE.2.1]; exact ha) ?_
      rw [if_neg (by decide), hE.2.1]
      have hsp := SQ_bf hE hb (k := 1) (by decide) QA_rf
      refine hQ hb _ (XF_XA fl_XF) (fun V Kv Qtq hV hW hk => hT92 V Kv Qtq hV hW (q_92 (d := dq + 14) hT hE (fun _ => hn) (fun _ h => absurd (.inl h) nA) hV hW (q_158 (d := dq + 13) hT hE (fun _ => nL) hV hW (q_158n (d := dq + 13) hT hE (fun _ => nA) hV hW (b_260_208 (Tr_mono _) hV hW _ _ _ _ _ _ _ ?_)))))
      rw [if_neg (by (clear hn12 hsd hp hT92 hx6 hS hG hQ ih hE hT ha h01 st0 s53 h12 hfl hS1 hn nA nL hb g1 g2 g3 g4 g5 g6 hsp hV hW hk; omega))]
      refine q_234o g3 (ER_ok hE hb).1 ?_
      rw [g2]
      exact q_260s77 hV hW hsp hk
    rw [if_neg (by decide)]
    have hP := PXL_2 hp
    refine x_138 h12 st0.1 st0.2 ?_
    have i71 : pX_ Mx 30 71 = Mx 71 := pX_r (by decide) (by decide)
    have i3 : pX_ Mx 30 1 3 = a := by rw [pX_1]; exact hE.2.1
    refine x_139 (by unfold iX_; rw [i3]; exact ha) ?_
    rw [i3, i71]
    have hE30 := ER_pX (v := 30) hE (by (clear hn12 hsd hV hW hp hT92 hx6 hS hG hQ ih hE hT ha h01 st0 h12 hfl hS1 hn hAL hP i71; lia))
    have st30 := ER_st hE30
    refine x_138 (by rw [pX_1]; exact h12) st30.1 st30.2 ?_
    obtain ⟨tA, tG, tE, t9, l9⟩ := TA_a hp hP
    have xa := XF_XA hP.1
    have a70 : pX_ (pX_ Mx 30) (Mx 71 a) 70 = Mx 70 := XF_70 hP.1 (by decide) (by decide) (by decide)
    have a71 : pX_ (pX_ Mx 30) (Mx 71 a) 71 = Mx 71 := XF_70 hP.1 (by decide) (by decide) (by decide)
    generalize pX_ (pX_ Mx 30) (Mx 71 a) = Ma at *
    refine y_135 tE (fun c => ?_) (fun c => ?_)
    · rw [a70] at c
      rw [if_neg (by decide)]
      refine Tr_rc (y_133a (d := 9 * n + 10) hp hP hn c hT92 hS hG hQ) (fun M9 h9 => ?_)
      rw [if_neg (by decide)]
      refine b_133_7 (Tr_mono _) hV hW _ _ _ ?_
      rw [if_pos rfl]
      exact ⟨.inr rfl, ri_i h9⟩
    · rw [a70] at c
      rw [if_pos rfl]
      have hA : isA (Mx 70) a := hAL.elim (fun h => h) (fun h => absurd h c)
      have fin : ITM dq n st mk me T b F Mx Mq a (fun v5 M7 => if (0 : Int) = 0 then Tr_ wd0 pg0 (9 * n + 18) 134 [.inr (.inr 1)] M7 (ri_ fun v6 M8 => if v6 = 0 then V 7 [rr 1, ii v5, ii 0, none] [] M8 else V 7 [rr 1, ii v5, ii 1, none] [] M8) Qt else V 7 [rr 1, ii v5, ii 0, none] [] M7) := by
        intro F1 M7 N7 a1 v P S hlt hv h3 hsy hrt
        rw [if_pos rfl]
        have hE7 := P.2.1
        have p7 := PS_tr hp P (Int.le_refl _)
        have e70 : M7 70 = Mx 70 := P.2.2.1.1.1 70 (by decide)
        have hlt1 := ITM_lt hE hsy
        refine y_134 hE7 (fun h => ?_) (fun h1 h2 => ?_)
        · rw [if_neg (by decide)]
          refine b_133_7 (Tr_mono _) hV hW _ _ _ ?_
          rw [if_neg (by decide)]
          have sy : ∀ lm, LOK b lm Mx M7 → LPT n (Mx 70) lm (a, lc_ b Mx) = LPT n (Mx 70) lm (a1, lc_ b M7) := fun lm hl => by
            have e := LPT_u (n := n) (κ := Mx 70) (lm := lm) (j := lc_ b Mx) ha.1 ha.2
            rw [hsy lm hl, nxT_1 (by rw [← e70]; exact h), Option.bind_some] at e
            exact e
          refine ih F1 M7 N7 a1 v 0 (by (clear hn12 hsd hV hW hp hT92 hx6 hS hG hQ ih hE hT ha h01 st0 s53 h12 hfl hS1 hn hAL i71 hE30 st30 hP tA tG tE t9 l9 xa a70 a71 c hA P S hlt hv h3 hsy hrt hE7 p7 e70 h sy; omega)) p7 (fun V Kv Qtq hV hW h => hrt V Kv Qtq hV hW (q_77 (d := dq + 14) hE7 hV hW h)) (.inl ⟨rfl, h⟩) (fun hb => ?_) (PGO_1 hp P S sy hG) (hQ_1 P hQ)
          rw [e70, show LMT M7 = LMT Mx from (LKP_P P).2.2.2 hb, ← sy _ (LOK_1 hb)]
          exact hS hb
        · rw [if_pos rfl]
          rw [e70] at h1 h2
          refine b_133_7 (Tr_mono _) hV hW _ _ _ ?_
          rw [if_pos rfl]
          refine ⟨hv, ri_i (hG F1 M7 N7 a1 v 0 P S hlt hv h3 (.inr ⟨rfl, h1, h2⟩) (fun lm hl => ?_) hrt)⟩
          have e := LPT_u (n := n) (κ := Mx 70) (lm := lm) (j := lc_ b Mx) ha.1 ha.2
          rw [hsy lm hl, nxT_0 h1 h2, Option.bind_some] at e
          exact e
      refine Tr_le (d := 9 * n + 17) (by omega) ?_
      by_cases hk : Mx 70 a = 18
      · exact y_133d hsd hp hP hn c hk hT92 hS1 fin hQ
      · by_cases hz : b = 0 ∧ Mx 70 a = 100 ∧ a = 1200
        · refine Tr_le (d := 6) (by (clear hsd hV hW hp hT92 hx6 hS hG hQ ih hE hT ha h01 st0 s53 h12 hfl hS1 hn hAL i71 i3 hE30 st30 hP tA tG tE t9 l9 xa a70 a71 c hA fin hk hz; lia)) (x_143z (d := 0) tE hz.1 (by rw [a70]; exact hz.2.1) hz.2.2 ?_)
          refine hQ hz.1 _ (XA_tr xa (XF_XA fl_XF)) (fun V Kv Qtq hV hW hk => hT92 V Kv Qtq hV hW (q_92z (d := dq + 9) hT hE hz.1 hz.2.1 hz.2.2 QA_rf fl_4 ⟨by rw [fl_5, a71], fl_b7 tE⟩ hV hW hk))
        · exact y_133b hn12 hp hP hn c hk hA (fun hb h100 => by (clear hn12 hsd hV hW hp hT92 hx6 hS hG hQ ih hE hT h01 st0 s53 h12 hfl hS1 hn hAL i71 hE30 st30 hP tA tG tE t9 l9 xa a70 a71 c hA fin hk; lia)) hT92 hS1 fin hQ
theorem y_133l [Inhabited gh_] (hn12 : n ≤ 12) (hsd : SDEC dq n) (hV : Cl_ wd0 (Tr_ wd0 pg0 (9 * n + 18)) V (ri_ K0) Qt m_133) (hW : Wk_ V) : ∀ (k : Nat) (F : Int) (Mx Mq : mm_) (a x1 x6 : Int), 1201 - a ≤ (k : Int) → PS b F Mx Mq a (12 - (n : Int)) me → T92 dq st mk me x6 Mq T → ((x6 = 0 ∧ (isA (Mx 70) a ∨ isL (Mx 70) a)) ∨ x6 = 1)
    → (b = 1 → LPT n (Mx 70) (LMT Mx) (a, lc_ b Mx) ≠ none)
    → PGO dq n st mk me T b F Mx Mq a K0 → (b = 0 → ∀ Mx', XA Mx Mx' → STT dq T Mq Mx' → Qt 8 Mx') → V 11 [rr 1, ii x1, ii 1, none] [] Mx
  | 0, F, Mx, Mq, a, x1, x6, hk, hp, h1, h2, h3, h4, h5 => by have := ER_a (PS_E hp); omega
  | k + 1, F, Mx, Mq, a, x1, x6, hk, hp, h1, h2, h3, h4, h5 => y_133s hn12 hsd hV hW hp h1 h2 h3 h4 h5 (fun F1 M1 N1 a1 y1 y6 hlt q1 q2 q3 q4 q5 q6 => y_133l hn12 hsd hV hW k F1 M1 N1 a1 y1 y6 (by omega) q1 q2 q3 q4 q5 q6)
end PP
end T164_pp
section T165_ps
/-! parts, whole -/
section PQ
variable {d dq n : Nat} {b F : Int} {Mx Mq : mm_} {a o me : Int} {κ : Int → Int} {lm : Int → Int → Bool}
theorem SEM_0 [Inhabited gh_] : SEM b Mx Mq Mx Mq 0 := fun _ h0 => ⟨h0, SEG_0, ⟨fun q _ _ => ⟨fun h => .inl h, fun h => h.elim (fun h => h) (fun ⟨k, h, _⟩ => by omega)⟩, fun q _ _ => ⟨fun h => .inl h, fun h => h.elim (fun h => h) (fun ⟨k, h, _⟩ => by omega)⟩⟩⟩
theorem PTj_1 [Inhabited gh_] {j : Int} (h : isA κ a ∨ isL κ a) : PTj κ lm n (a, j) = LPT n κ lm (a, j) := by
  rw [PTj_e]; unfold ptT; rw [if_pos h]; rfl
theorem PTj_0 [Inhabited gh_] {j : Int} (h1 : ¬ isA κ a) (h2 : ¬ isL κ a) : PTj κ lm n (a, j) = some (a, j) := by
  rw [PTj_e]; unfold ptT; rw [if_neg (fun h => h.elim h1 h2)]
theorem SPART_d [Inhabited gh_] (hn : n ≤ 12) (hsd : SDEC dq n) : SPART dq n := by
  intro b F Mx Mq a me st mk K Qt hp h103 hS hK hQ
  have hE := PS_E hp
  have ha := ER_a hE
  refine t_133 fun V hV hW => b_133_0 (Tr_mono _) hV hW _ ?_
  refine y_134 hE (fun h => ?_) (fun h1 h2 => ?_)
  · refine b_133_7 (Tr_mono _) hV hW _ _ _ ?_
    rw [if_neg (by decide)]
    refine y_133l (T := fun V => V 77 (LSz st mk me 0) [] Mq) hn hsd hV hW 1201 F Mx Mq a 0 0 (by (clear hn hsd hp h103 hS hK hQ hE hV hW h; omega)) hp (fun V Kv Qtq hV hW h => q_77 (d := dq + 14) hE hV hW h) (.inl ⟨rfl, h⟩) (fun hb => by rw [← PTj_1 h]; exact hS hb) (fun F' M' N' a' v c P S hlt hv h3 hc hsy hrt => hK F' M' N' a' v c P S hv h3 hc (fun lm hl => (PTj_1 h).trans (hsy lm hl)) hrt) hQ
  · refine b_133_7 (Tr_mono _) hV hW _ _ _ ?_
    rw [if_pos rfl]
    exact ⟨.inl rfl, ri_i (hK F Mx Mq a 0 0 (PRC_rf hp) SEM_0 (.inl rfl) h103 (.inr ⟨rfl, h1, h2⟩) (fun lm _ => PTj_0 h1 h2) (fun V Kv Qtq hV hW h => h))⟩
/-- every part -/
theorem SPART_n [Inhabited gh_] : ∀ n : Nat, n ≤ 12 → SPART dq n
  | 0, h => SPART_d h SDEC_0
  | n + 1, h => SPART_d h (SDEC_s (SPART_n n (by omega)) h)
end PQ
end T165_ps
section T166_tr
/-! a trans -/
def tM_ (N : mm_) (st mk : Int) : mm_ := up_ (up_ (up_ (up_ (up_ (up_ (up_ (up_ N 6 76 (N 6 76 + 1)) 211 (N 6 76) (N 6 61)) 212 (N 6 76) mk) 215 (N 6 76) st) 213 (N 6 76) 0) 214 (N 6 76) 0) 6 102 0) 6 103 0
section TR
variable {d dq n : Nat} {b F F' : Int} {Mx Mq M N : mm_} {a o st mk me : Int} {K : Int → mm_ → Prop} {Kv : mm_ → Prop} {Qt : qt_} {V : vv_}
theorem tM_6 [Inhabited gh_] {i : Int} (h1 : i ≠ 76) (h2 : i ≠ 102) (h3 : i ≠ 103) : tM_ N st mk 6 i = N 6 i := by unfold tM_; rw [up_off h3, up_off h2, up_ne (by decide), up_ne (by decide), up_ne (by decide), up_ne (by decide), up_ne (by decide), up_off h1]
theorem tM_r [Inhabited gh_] {r : Nat} (h6 : r ≠ 6) (h1 : r ≠ 211) (h2 : r ≠ 212) (h3 : r ≠ 215) (h4 : r ≠ 213) (h5 : r ≠ 214) : tM_ N st mk r = N r := by unfold tM_; rw [up_ne h6, up_ne h6, up_ne h5, up_ne h4, up_ne h3, up_ne h2, up_ne h1, up_ne h6]
theorem tM_102 [Inhabited gh_] : tM_ N st mk 6 102 = 0 := by unfold tM_; rw [up_off (by decide), up_at]
theorem tM_103 [Inhabited gh_] : tM_ N st mk 6 103 = 0 := by unfold tM_; rw [up_at]
/-- Q: from the start of a trans to the head of its loop -/
theorem q_260i [Inhabited gh_] (hg : go_ N) (h76 : 0 ≤ N 6 76 ∧ N 6 76 < 1300) (hst : st = 0 ∨ st = 1) (h : ∀ V : vv_, Cl_ wd0 (Tr_ wd0 pg0 (d + 1)) V (rv_ Kv) Qt m_260 → Wk_ V → V 77 (LSz st mk (N 6 76) 0) [] (tM_ N st mk)) : Tr_ wd0 pg0 (d + 2) 260 [.inr (.inr 6), .inl st, .inl mk] N (rv_ Kv) Qt := by
  refine t_260 fun V hV hW => b_260_0 (Tr_mono _) hV hW _ _ _ (q_227g hg ?_)
  rw [if_pos rfl, w32_id (by (clear hg hst h hV hW; omega)) (by omega)]
  exact ⟨h76, h76, ⟨h76, hst⟩, h76, h76, .inl rfl, h V hV hW⟩
/-- Q: from behind the part to the end of a trans -/
theorem q_260e [Inhabited gh_] {c v : Int} (hT : Tks M N) (hE : ER b F M N a o) (hc : c = 1 ∨ (c = 0 ∧ ¬ isA (M 70) a ∧ ¬ isL (M 70) a)) (h102 : N 6 102 = 0) (h103 : N 6 103 = v) (hv : v = 0 ∨ v = 1) (hV : Cl_ wd0 (Tr_ wd0 pg0 (d + 2)) V (rv_ Kv) Qt m_260) (hW : Wk_ V) (h : Kv (Qn_ N b (if v = 0 then 6 else 0) (M 71 a))) : V 77 (LSz st mk me c) [] N := by
  obtain ⟨g1, g2, g3, g4, g5, g6⟩ := ER_k hT hE
  have n16 : N 6 16 = b := hE.2.2.2.2.2.2.2.1
  refine q_77e hT hE hc hV hW (b_260_208 (Tr_mono _) hV hW _ _ _ _ _ _ _ ?_)
  rw [if_pos rfl, if_pos h102]
  refine b_260_77 (Tr_mono _) hV hW _ _ _ _ _ _ ?_
  rw [if_pos rfl]
  intro _
  rcases hv with e | e
  · rw [if_pos (by (clear hT hE hc h102 hV hW h g1 g2 g3 g4 g5 g6 n16; lia))]
    refine ⟨g3, q_236 ?_⟩
    rw [g2]
    rw [if_pos e] at h
    have e9 : Qn_ N b 6 (M 71 a) = nt_ N 6 (M 71 a) := by
      unfold Qn_
      rcases bl01 hE with hb | hb
      · rw [if_pos (.inl hb)]; unfold nt_; rw [if_pos (by (clear hT hE hc h102 h103 hV hW h g1 g2 g3 g4 g5 g6 e; lia))]
      · rw [if_neg (by (clear hT hE hc h102 h103 hV hW h g1 g2 g3 g4 g5 g6 n16 e; lia))]
    rw [e9] at h
    exact rv_i h
  · rw [if_neg (by (clear hT hE hc h102 hV hW h g1 g2 g3 g4 g5 g6 n16; lia))]
    rw [if_neg (by omega)] at h
    have e9 : Qn_ N b 0 (M 71 a) = N := by unfold Qn_; rw [if_pos (.inr rfl)]
    rw [e9] at h
    exact rv_i h
theorem y_132 [Inhabited gh_] (hp : PS b F Mx (tM_ Mq st mk) a 0 (Mq 6 76)) (hst : st = 0 ∨ st = 1)
    (hS : b = 1 → PTj (Mx 70) (LMT Mx) 12 (a, lc_ b Mx) ≠ none)
    (hK : ∀ F' M' N' a' v kk, PRC b F F' Mx (tM_ Mq st mk) M' N' a a' 0 0 (Mq 6 76) → SEM b Mx (tM_ Mq st mk) M' N' v → (v = 0 ∨ v = 1) → kk = (if v = 0 then 6 else 0) → ER b F' (Xn_ M' b kk a') (Qn_ N' b kk (M' 71 a')) a' 0 → (b = 1 → Qn_ N' b kk (M' 71 a') 6 13 = 0 → kk = 0 ∧ N' 6 13 = 0) → (∀ lm, LOK b lm Mx M' → PTj (Mx 70) lm 12 (a, lc_ b Mx) = some (a', lc_ b M'))
      → (∀ (Kv : mm_ → Prop) (Qtq : qt_), Kv (Qn_ N' b kk (M' 71 a')) → Tr_ wd0 pg0 (dq + 16) 260 [.inr (.inr 6), .inl st, .inl mk] Mq (rv_ Kv) Qtq) → Kv (Xn_ M' b kk a'))
    (hQ : b = 0 → ∀ Mx', XA Mx Mx' → (∀ (Kv : mm_ → Prop) (Qtq : qt_), (∀ M', SQ Mx' (tM_ Mq st mk) M' → Kv M') → Tr_ wd0 pg0 (dq + 16) 260 [.inr (.inr 6), .inl st, .inl mk] Mq (rv_ Kv) Qtq) → Qt 8 Mx') :
    Tr_ wd0 pg0 128 132 [.inr (.inr 1)] Mx (rv_ Kv) Qt := by
  have hE := PS_E hp
  have hg : go_ Mq := by
    have q := ER_goq hE
    unfold go_ at q ⊢
    rw [tM_6 (by decide) (by decide) (by decide), tM_6 (by decide) (by decide) (by decide)] at q
    exact q
  have h76 := hp.2.2.2.2.1.2.1
  have ini : ∀ (Kv : mm_ → Prop) (Qtq : qt_), (∀ V : vv_, Cl_ wd0 (Tr_ wd0 pg0 (dq + 15)) V (rv_ Kv) Qtq m_260 → Wk_ V → V 77 (LSz st mk (Mq 6 76) 0) [] (tM_ Mq st mk)) → Tr_ wd0 pg0 (dq + 16) 260 [.inr (.inr 6), .inl st, .inl mk] Mq (rv_ Kv) Qtq := fun Kv Qtq h => q_260i (d := dq + 14) hg h76 hst h
  refine t_132 fun V hV hW => b_132_0 (Tr_mono _) hV hW _ ?_
  refine (SPART_n (dq := dq) 12 (by decide)) b F Mx (tM_ Mq st mk) a (Mq 6 76) st mk _ Qt hp tM_103 hS (fun F' M' N' a' v c P S hv h3 hc hsy hrt => ?_) (fun hb Mx' hx hs => hQ hb Mx' hx fun Kv Qtq hk => ini _ _ fun V hV hW => hs V Kv Qtq hV hW hk)
  have P0 : PRC b F F' Mx (tM_ Mq st mk) M' N' a a' 0 0 (Mq 6 76) := P
  have hp1 := PS_tr hp P0 (Int.le_refl _)
  have hE1 := PS_E hp1
  have hT1 := hp1.1.1
  have ha1 := ER_a hE1
  have e70 : M' 70 = Mx 70 := P0.2.2.1.1.1 70 (by decide)
  have hg1 := hE1.1
  have hpa := tk_p hT1 hg1
  have hfl := hp1.2.2.2.2.2.1
  obtain ⟨kk, hkk⟩ : ∃ kk : Int, kk = if v = 0 then 6 else 0 := ⟨_, rfl⟩
  have hkc : kk = 0 ∨ (3 ≤ kk ∧ kk ≤ 6) := by rw [hkk]; split <;> (clear hp hst hS hK hQ hE hg h76 ini hV hW P S hv h3 hc hsy hrt P0 hp1 hE1 hT1 ha1 e70 hg1 hpa hfl hkk; omega)
  obtain ⟨E1, E2, E3⟩ := ER_m (k := kk) (tk := a') hE1 hkc hpa (by (clear hp hst hS hK hQ hE hg h76 ini hV hW P S hv h3 hc hsy hrt P0 hp1 hE1 hT1 ha1 e70 hg1 hpa hkk hkc; omega))
  have main := hK F' M' N' a' v kk P0 S hv hkk E1 E3 hsy (fun Kv Qtq hk => ini _ _ fun V hV hW => hrt V Kv Qtq hV hW (q_260e (d := dq + 13) hT1 hE1 (by
    rw [e70]
    rcases hc with q | q
    · exact .inl q.1
    · exact .inr q) (by rw [P0.2.2.2.1.1.2.2.2.2.2.2]; exact tM_102) h3 hv hV hW (by rw [← hkk]; exact hk)))
  have m8 : M' 1 8 = b := hE1.2.2.2.2.2.2.1
  unfold Xn_ at main
  rcases hv with e | e
  · rw [if_pos e]
    rw [if_pos e] at hkk
    intro _
    rcases bl01 hE1 with hb | hb
    · rw [if_pos (by (clear hp hst hS hK hQ hE hg h76 ini hV hW P S h3 hc hsy hrt P0 hp1 hE1 hT1 ha1 e70 hg1 hpa hfl hkk hkc E1 E2 E3 main e; lia))]
      rw [if_pos (.inl hb)] at main
      exact rv_i main
    · rw [if_neg (by (clear hp hst hS hK hQ hE hg h76 ini hV hW P S h3 hc hsy hrt P0 hp1 hE1 hT1 ha1 e70 hg1 hpa hfl hkk hkc E1 E2 E3 main e; lia)), hE1.2.1]
      rw [if_neg (by (clear hp hst hS hK hQ hE hg h76 ini hV hW P S h3 hc hsy hrt P0 hp1 hE1 hT1 ha1 e70 hg1 hpa hfl hkc E1 E2 E3 main m8 e; lia)), hkk] at main
      exact x_116 (by (clear hp hst hS hK hQ hE hg h76 ini hV hW P S h3 hc hsy hrt P0 hp1 hE1 hT1 e70 hg1 hpa hfl hkk hkc E1 E2 E3 main m8 e hb; omega)) (by (clear hp hst hS hK hQ hE hg h76 ini hV hW P S h3 hc hsy hrt P0 hp1 hE1 hT1 e70 hg1 hpa hfl hkk hkc E1 E2 E3 main m8 e hb; omega)) (ER_fl hE1).1 (ER_fl hE1).2 (rv_i main)
  · rw [if_neg (by (clear hp hst hS hK hQ hE hg h76 ini hV hW P S h3 hc hsy hrt P0 hp1 hE1 hT1 ha1 e70 hg1 hpa hfl hkk hkc E1 E2 E3 main m8; lia))]
    rw [if_neg (by omega)] at hkk
    rw [if_pos (.inr hkk)] at main
    exact rv_i main
end TR
end T166_tr
section T167_xb
/-! states: frames; before a trans -/
def xbL : List Nat := [1, 5, 59, 62, 63, 64, 65, 66, 123, 128, 129, 133, 134, 135, 136, 137, 138, 139, 140, 141, 142]
def xbI : List Int := [3, 4, 5, 6, 7, 19, 21, 22, 23, 29, 34]
def qbL : List Nat := [6, 174, 175, 179, 180, 186, 187, 188, 189, 192, 193, 194, 195, 196, 197, 198, 199, 200, 201, 202, 203, 204, 205, 206, 207, 208, 209, 210, 211, 212, 213, 214, 215, 216, 217, 218, 219, 220, 221, 222, 223, 224, 225, 226, 227, 228, 229, 230, 231, 232, 233, 234]
def qbI : List Int := [12, 13, 14, 15, 62, 63, 75, 76, 90, 102, 103, 104, 107, 108, 109, 112, 116, 118]
def XSb (M M' : mm_) : Prop := Fr_ xbL M M' ∧ (∀ i : Int, i ∉ xbI → M' 1 i = M 1 i) ∧ (∀ i : Int, i ≠ 3 → i ≠ 4 → M' 5 i = M 5 i)
def QSb (M M' : mm_) : Prop := Fr_ qbL M M' ∧ ∀ i : Int, i ∉ qbI → M' 6 i = M 6 i
section XBS
variable {b F F' : Int} {Mx Mq Mx1 Mq1 M N M1 N1 M2 N2 : mm_} {a a1 p st mk mx : Int}
theorem XSb_rf [Inhabited gh_] : XSb M M := ⟨Fr_rf, fun _ _ => rfl, fun _ _ _ => rfl⟩
theorem QSb_rf [Inhabited gh_] : QSb M M := ⟨Fr_rf, fun _ _ => rfl⟩
theorem XSb_tr [Inhabited gh_] (h1 : XSb M M1) (h2 : XSb M1 M2) : XSb M M2 := ⟨Fr_tr h1.1 h2.1, fun i a => (h2.2.1 i a).trans (h1.2.1 i a), fun i a b => (h2.2.2 i a b).trans (h1.2.2 i a b)⟩
theorem QSb_tr [Inhabited gh_] (h1 : QSb M M1) (h2 : QSb M1 M2) : QSb M M2 := ⟨Fr_tr h1.1 h2.1, fun i a => (h2.2 i a).trans (h1.2 i a)⟩
theorem XA_XSb [Inhabited gh_] (h : XA M M1) : XSb M M1 := ⟨Fr_sub h.1 (by decide), fun i hi => h.2.1 i (fun e => hi (by revert e; unfold xaI xbI; simp only [List.mem_cons, List.not_mem_nil, or_false]; (clear h hi; lia))), fun i h3 _ => h.2.2 i h3⟩
theorem QA_QSb [Inhabited gh_] (h : QA M M1) : QSb M M1 := ⟨Fr_sub h.1 (by decide), fun i hi => h.2 i (fun e => hi (by revert e; unfold qaI qbI; simp only [List.mem_cons, List.not_mem_nil, or_false]; (clear h hi; lia)))⟩
theorem XSb_r [Inhabited gh_] (h : XSb M M1) {r : Nat} (hr : r ∉ xbL) : M1 r = M r := h.1 r hr
theorem QSb_r [Inhabited gh_] (h : QSb M M1) {r : Nat} (hr : r ∉ qbL) : M1 r = M r := h.1 r hr
theorem Tks_b [Inhabited gh_] (hx : XSb Mx Mx1) (hq : QSb Mq Mq1) (h : Tks Mx Mq) : Tks Mx1 Mq1 := by
  unfold Tks gd_ lk9_ at *
  rw [XSb_r hx (r := 69) (by decide), XSb_r hx (r := 70) (by decide), XSb_r hx (r := 71) (by decide), XSb_r hx (r := 72) (by decide), XSb_r hx (r := 73) (by decide), QSb_r hq (r := 149) (by decide), QSb_r hq (r := 150) (by decide), QSb_r hq (r := 151) (by decide)]
  exact h
theorem VT_b [Inhabited gh_] (hx : XSb Mx Mx1) (hq : QSb Mq Mq1) (h : VT Mx Mq) : VT Mx1 Mq1 := by
  unfold VT nm9_ gd_ at *
  rw [hx.2.1 2 (by decide), hx.2.1 18 (by decide), hq.2 61 (by decide), XSb_r hx (r := 70) (by decide), XSb_r hx (r := 60) (by decide), XSb_r hx (r := 61) (by decide), XSb_r hx (r := 124) (by decide), XSb_r hx (r := 126) (by decide), XSb_r hx (r := 130) (by decide), XSb_r hx (r := 131) (by decide), XSb_r hx (r := 132) (by decide), QSb_r hq (r := 151) (by decide), QSb_r hq (r := 171) (by decide), QSb_r hq (r := 173) (by decide), QSb_r hq (r := 177) (by decide), QSb_r hq (r := 178) (by decide), QSb_r hq (r := 182) (by decide), QSb_r hq (r := 183) (by decide), QSb_r hq (r := 184) (by decide)]
  exact h
theorem tpl_b [Inhabited gh_] (hq : QSb Mq Mq1) {v : Int} : tpl Mq1 v = tpl Mq v := by
  unfold tpl
  rw [hq.2 19 (by decide), QSb_r hq (r := 154) (by decide)]
theorem GT_b [Inhabited gh_] (hx : XSb Mx Mx1) (hq : QSb Mq Mq1) (h : GT b F Mx Mq p) : GT b F Mx1 Mq1 p := by
  have et : tpl Mq1 = tpl Mq := funext fun v => tpl_b hq
  unfold GT SGT PRT RTT sgl9 tpl9 rtl9 nm9_ gd_ at *
  rw [et, hx.2.2 0 (by decide) (by decide), hx.2.2 1 (by decide) (by decide), hx.2.2 2 (by decide) (by decide), hq.2 17 (by decide), hq.2 18 (by decide), hq.2 19 (by decide), hq.2 61 (by decide), XSb_r hx (r := 70) (by decide), XSb_r hx (r := 56) (by decide), XSb_r hx (r := 57) (by decide), XSb_r hx (r := 58) (by decide), XSb_r hx (r := 112) (by decide), XSb_r hx (r := 113) (by decide), XSb_r hx (r := 114) (by decide), XSb_r hx (r := 119) (by decide), XSb_r hx (r := 122) (by decide), XSb_r hx (r := 130) (by decide),
    QSb_r hq (r := 151) (by decide), QSb_r hq (r := 152) (by decide), QSb_r hq (r := 153) (by decide), QSb_r hq (r := 154) (by decide), QSb_r hq (r := 156) (by decide), QSb_r hq (r := 157) (by decide), QSb_r hq (r := 158) (by decide), QSb_r hq (r := 164) (by decide), QSb_r hq (r := 170) (by decide), QSb_r hq (r := 182) (by decide), QSb_r hq (r := 183) (by decide)]
  exact h
theorem stt9_b [Inhabited gh_] (hx : XSb Mx M1) (hq : QSb Mq N1) (h59 : M1 59 = Mx 59) (h123 : M1 123 = Mx 123) (h174 : N1 174 = Mq 174) (h179 : N1 179 = Mq 179) (h : stt9 Mx Mq) : stt9 M1 N1 := by
  unfold stt9 nm9_ gd_ at *
  rw [hx.2.1 18 (by decide), h123, h59, XSb_r hx (r := 70) (by decide), h174, h179, QSb_r hq (r := 151) (by decide)]
  exact h
theorem LBT_b [Inhabited gh_] (h : LBT b F Mx Mq a) (hx : XSb Mx M1) (hq : QSb Mq N1) (h62 : M1 62 = Mx 62) (h128 : M1 128 = Mx 128) (h175 : N1 175 = Mq 175) (h180 : N1 180 = Mq 180) (h187 : N1 187 = Mq 187) : LBT b F M1 N1 a := by
  unfold LBT LBG lbl9 nm9_ gd_ at *
  rw [hx.2.1 18 (by decide), h62, h128, h175, h180, h187, XSb_r hx (r := 70) (by decide), XSb_r hx (r := 71) (by decide), QSb_r hq (r := 151) (by decide)]
  exact h
/-- between two transes -/
def TS [Inhabited gh_] (b F : Int) (Mx Mq : mm_) (a : Int) : Prop := TA b F Mx Mq a 0 ∧ GT b F Mx Mq (Mx 71 a) ∧ LBT b F Mx Mq a ∧ stt9 Mx Mq ∧ ((0 ≤ Mx 1 29 ∧ 2 * Mx 1 29 + 2 ≤ a) ∧ (0 ≤ Mq 6 76 ∧ 2 * Mq 6 76 + 2 ≤ a)) ∧ Mx 1 7 + 8 * (1201 - a) ≤ 1000000000 - (gg_ : Int) ∧ (0 ≤ Mq 6 90 ∧ Mq 6 90 ≤ a) ∧ ((b = 1 → 0 ≤ Mx 1 21 ∧ Mx 1 21 < 1048576) ∧ (b = 1 → 0 ≤ Mx 1 23 ∧ Mx 1 23 < 64)) ∧ (0 ≤ Mx 1 19 ∧ Mx 5 3 ≤ 9 * a + 400)
def sX_ (M : mm_) (mx : Int) : mm_ := up_ (up_ (up_ (up_ (up_ M 66 (M 1 29) mx) 63 (M 1 29) 0) 64 (M 1 29) 0) 65 (M 1 29) 0) 1 29 (M 1 29 + 1)
theorem sX_1 [Inhabited gh_] {i : Int} (h : i ≠ 29) : sX_ M mx 1 i = M 1 i := by unfold sX_; rw [up_off h, up_ne (by decide), up_ne (by decide), up_ne (by decide), up_ne (by decide)]
theorem sX_29 [Inhabited gh_] : sX_ M mx 1 29 = M 1 29 + 1 := by unfold sX_; rw [up_at]
theorem sX_r [Inhabited gh_] {r : Nat} (h1 : r ≠ 1) (h2 : r ≠ 63) (h3 : r ≠ 64) (h4 : r ≠ 65) (h5 : r ≠ 66) : sX_ M mx r = M r := by unfold sX_; rw [up_ne h1, up_ne h4, up_ne h3, up_ne h2, up_ne h5]
theorem sX_k [Inhabited gh_] : sX_ M mx 66 (M 1 29) = mx ∧ sX_ M mx 63 (M 1 29) = 0 ∧ sX_ M mx 64 (M 1 29) = 0 ∧ sX_ M mx 65 (M 1 29) = 0 := by
  unfold sX_
  refine ⟨?_, ?_, ?_, ?_⟩
  · rw [up_ne (by decide), up_ne (by decide), up_ne (by decide), up_ne (by decide), up_at]
  · rw [up_ne (by decide), up_ne (by decide), up_ne (by decide), up_at]
  · rw [up_ne (by decide), up_ne (by decide), up_at]
  · rw [up_ne (by decide), up_at]
theorem sX_XSb [Inhabited gh_] : XSb M (sX_ M mx) := ⟨fun r hr => sX_r (fun e => hr (by rw [e]; decide)) (fun e => hr (by rw [e]; decide)) (fun e => hr (by rw [e]; decide)) (fun e => hr (by rw [e]; decide)) (fun e => hr (by rw [e]; decide)), fun i hi => sX_1 (nm_i hi (by decide)), fun i _ _ => by rw [sX_r (by decide) (by decide) (by decide) (by decide) (by decide)]⟩
theorem tM_k [Inhabited gh_] : tM_ N st mk 215 (N 6 76) = st ∧ tM_ N st mk 213 (N 6 76) = 0 ∧ tM_ N st mk 214 (N 6 76) = 0 ∧ tM_ N st mk 212 (N 6 76) = mk ∧ tM_ N st mk 211 (N 6 76) = N 6 61 := by
  unfold tM_
  refine ⟨?_, ?_, ?_, ?_, ?_⟩
  · rw [up_ne (by decide), up_ne (by decide), up_ne (by decide), up_ne (by decide), up_at]
  · rw [up_ne (by decide), up_ne (by decide), up_ne (by decide), up_at]
  · rw [up_ne (by decide), up_ne (by decide), up_at]
  · rw [up_ne (by decide), up_ne (by decide), up_ne (by decide), up_ne (by decide), up_ne (by decide), up_at]
  · rw [up_ne (by decide), up_ne (by decide), up_ne (by decide), up_ne (by decide), up_ne (by decide), up_ne (by decide), up_at]
theorem tM_QSb [Inhabited gh_] : QSb N (tM_ N st mk) := ⟨fun r hr => tM_r (fun e => hr (by rw [e]; decide)) (fun e => hr (by rw [e]; decide)) (fun e => hr (by rw [e]; decide)) (fun e => hr (by rw [e]; decide)) (fun e => hr (by rw [e]; decide)) (fun e => hr (by rw [e]; decide)), fun i hi => tM_6 (nm_i hi (by decide)) (nm_i hi (by decide)) (nm_i hi (by decide))⟩
theorem TS_PS [Inhabited gh_] (h : TS b F Mx Mq a) (hm : b = 1 → (mx = -1 ↔ st ≠ 0)) : PS b F (sX_ Mx mx) (tM_ Mq st mk) a 0 (Mq 6 76) := by
  obtain ⟨⟨t1, t2, t3, t4, t5, t6⟩, g, l, s, ⟨u1, u2⟩, w, r, ⟨k1, k2⟩, n1, n2⟩ := h
  have ha := ER_a t3
  have x := sX_XSb (M := Mx) (mx := mx)
  have q := tM_QSb (N := Mq) (st := st) (mk := mk)
  have k := sX_k (M := Mx) (mx := mx)
  have kq := tM_k (N := Mq) (st := st) (mk := mk)
  have e5 : sX_ Mx mx 5 = Mx 5 := sX_r (by decide) (by decide) (by decide) (by decide) (by decide)
  have e71 : sX_ Mx mx 71 = Mx 71 := sX_r (by decide) (by decide) (by decide) (by decide) (by decide)
  have i29 : sX_ Mx mx 1 29 - 1 = Mx 1 29 := by rw [sX_29]; omega
  have hE : ER b F (sX_ Mx mx) (tM_ Mq st mk) a 0 := ER_X2 (ER_Q t3 (tM_6 (by decide) (by decide) (by decide)) (tM_6 (by decide) (by decide) (by decide)) (tM_6 (by decide) (by decide) (by decide)) (tM_6 (by decide) (by decide) (by decide)) (tM_6 (by decide) (by decide) (by decide))) (XSb_r x (by decide)) (fun i h1 h2 => sX_1 (by (clear hm t1 t2 t3 t4 t5 t6 g l s u1 u2 w r k1 k2 n1 n2 ha x q k kq e5 e71 i29; omega))) (by rw [e5]) (sX_1 (by omega))
  refine ⟨⟨Tks_b x q t1, VT_b x q t2, hE, by rw [tM_6 (by decide) (by decide) (by decide)]; exact t4, by rw [tM_6 (by decide) (by decide) (by decide)]; exact t5, by rw [e5]; exact t6⟩, by rw [e71]; exact GT_b x q g, LBT_b l x q (sX_r (by decide) (by decide) (by decide) (by decide) (by decide)) (sX_r (by decide) (by decide) (by decide) (by decide) (by decide)) (tM_r (by decide) (by decide) (by decide) (by decide) (by decide) (by decide)) (tM_r (by decide) (by decide) (by decide) (by decide) (by decide) (by decide)) (tM_r (by decide) (by decide) (by decide) (by decide) (by decide) (by decide)), stt9_b x q (sX_r (by decide) (by decide) (by decide) (by decide) (by decide)) (sX_r (by decide) (by decide) (by decide) (by decide) (by decide)) (tM_r (by decide) (by decide) (by decide) (by decide) (by decide) (by decide)) (tM_r (by decide) (by decide) (by decide) (by decide) (by decide) (by decide)) s, ⟨by rw [sX_29]; (clear hm t1 t2 t3 t4 t5 t6 g l s u2 w r k1 k2 n1 n2 x q k kq e5 e71 hE; lia), by (clear hm t1 t2 t3 t4 t5 t6 g l s u1 w r k1 k2 n1 n2 x q k kq e5 e71 i29 hE; omega), fun hb => ?_⟩, ?_, by rw [tM_6 (by decide) (by decide) (by decide)]; exact r, by rw [tM_102]; omega, ⟨fun hb => ?_, ?_, ?_⟩, ?_, by rw [e5]; exact n2⟩
  · rw [i29, k.1, kq.1]; exact hm hb
  · rw [sX_1 (by decide)]; exact w
  · rw [i29, k.2.1, k.2.2.1, k.2.2.2, kq.2.1, kq.2.2.1]
    have w0 := wM_0 (n := sX_ Mx mx 123 (sX_ Mx mx 1 18))
    (clear hm t1 t2 t3 t4 t5 t6 g l s u1 u2 w r k1 k2 n1 n2 ha x q k kq e5 e71 i29 hE hb; lia)
  · rw [sX_1 (by decide)]; exact k1
  · rw [sX_1 (by decide)]; exact k2
  · rw [sX_1 (by decide)]; exact n1
theorem x_131 [Inhabited gh_] {d : Nat} {Kv : mm_ → Prop} {Qt : qt_} (h0 : 0 ≤ M 1 29 ∧ M 1 29 < 600) (h : Kv (sX_ M mx)) : Tr_ wd0 pg0 (d + 1) 131 [.inr (.inr 1), .inl mx] M (rv_ Kv) Qt := t_131 fun V hV hW => b_131_0 (Tr_mono _) hV hW _ _ ⟨h0, h0, h0, h0, by rw [w32_id (by omega) (by omega)]; exact rv_i h⟩
end XBS
end T167_xb
section T168_tn
/-! a trans, from between two transes to the next -/
section TN
variable {d dq : Nat} {b F F' : Int} {Mx Mq M N : mm_} {a a' st mk mx kk : Int} {Kv : mm_ → Prop} {Qt : qt_}
theorem PS_TS [Inhabited gh_] (h29 : 2 * Mx 1 29 + 4 ≤ a) (h76 : 2 * Mq 6 76 + 4 ≤ a) (h0 : 0 ≤ Mx 1 29 ∧ 0 ≤ Mq 6 76) (hfl : Mx 1 7 + 8 * (1201 - a) + 1 ≤ 1000000000 - (gg_ : Int))
    (hp : PS b F (sX_ Mx mx) (tM_ Mq st mk) a 0 (Mq 6 76)) (hP : PRC b F F' (sX_ Mx mx) (tM_ Mq st mk) M N a a' 0 0 (Mq 6 76)) (hk : kk = 0 ∨ (3 ≤ kk ∧ kk ≤ 6)) (hE : ER b F' (Xn_ M b kk a') (Qn_ N b kk (M 71 a')) a' 0) (h7 : Xn_ M b kk a' 1 7 ≤ M 1 7 + 1) : TS b F' (Xn_ M b kk a') (Qn_ N b kk (M 71 a')) a' := by
  have p1 := PS_tr hp hP (Int.le_refl _)
  obtain ⟨⟨t1, t2, t3, t4, t5, t6⟩, g, l, s, ⟨u1, u2, u3⟩, w, r, dd, msk, n1, n2⟩ := p1
  have xf : XF M (Xn_ M b kk a') := Xn_XF
  have xa := XF_XA xf
  have qn : QN N (Qn_ N b kk (M 71 a')) := QN_Qn
  have qa : QA N (Qn_ N b kk (M 71 a')) := QF_QA (QN_QF qn)
  have e29 : M 1 29 = Mx 1 29 + 1 := by rw [hP.2.2.1.1.2.1 29 (by decide), sX_29]
  have e76 : N 6 76 = Mq 6 76 + 1 := by rw [hP.2.2.1.2.2 76 (by decide)]; unfold tM_; rw [up_off (by decide), up_off (by decide), up_ne (by decide), up_ne (by decide), up_ne (by decide), up_ne (by decide), up_ne (by decide), up_at]
  have y1 : ∀ i : Int, i ≠ 3 → i ≠ 4 → i ≠ 5 → i ≠ 6 → i ≠ 7 → Xn_ M b kk a' 1 i = M 1 i := xf.2.1
  have q6 : ∀ i : Int, i ≠ 12 → i ≠ 13 → i ≠ 14 → Qn_ N b kk (M 71 a') 6 i = N 6 i := fun i h1 h2 h3 => qn.2 i h1 h2 h3
  have qr : ∀ r : Nat, r ≠ 6 → Qn_ N b kk (M 71 a') r = N r := fun r hr => qn.1 r hr
  have e5 : Xn_ M b kk a' 5 = M 5 := Xn_r (by decide)
  have e71 : Xn_ M b kk a' 71 = M 71 := Xn_r (by decide)
  have pb := hP.2.2.2.2.1
  obtain ⟨b1, b2, b3, b4, b5, b6⟩ := pb
  rw [sX_1 (by decide)] at b6
  refine ⟨⟨Tks_a xa qa t1, VT_a xa qa t2, hE, by rw [q6 75 (by decide) (by decide) (by decide)]; exact t4, by rw [q6 104 (by decide) (by decide) (by decide)]; exact t5, by rw [e5]; exact t6⟩, by rw [e71]; exact GT_a xa qa g, LBT_c l xa qa (Xn_r (by decide)) (Xn_r (by decide)) (qr _ (by decide)) (qr _ (by decide)) (qr _ (by decide)) (Int.le_refl _), stt9_a xa qa s, ⟨?_, ?_⟩, by (clear h29 h76 h0 hp hP hk hE t1 t2 t3 t4 t5 t6 g l s u1 u2 u3 r dd msk n1 n2 xf xa qn qa e29 e76 y1 q6 qr e5 e71 b1 b2 b3 b4 b5; lia), by rw [q6 90 (by decide) (by decide) (by decide)]; exact r, ⟨by rw [y1 21 (by decide) (by decide) (by decide) (by decide) (by decide)]; exact msk.2.1, by rw [y1 23 (by decide) (by decide) (by decide) (by decide) (by decide)]; exact msk.2.2⟩, by rw [y1 19 (by decide) (by decide) (by decide) (by decide) (by decide)]; exact n1, by rw [e5]; exact n2⟩
  · rw [y1 29 (by decide) (by decide) (by decide) (by decide) (by decide), e29]; (clear h76 h0 hfl hp hP hk hE h7 t1 t2 t3 t4 t5 t6 g l s u2 u3 w r dd msk n1 n2 xf xa qn qa e76 y1 q6 qr e5 e71 b2 b3 b4 b5 b6; omega)
  · rw [q6 76 (by decide) (by decide) (by decide), e76]; (clear h29 hfl hp hP hk hE h7 t1 t2 t3 t4 t5 t6 g l s u1 u3 w r dd msk n1 n2 xf xa qn qa e29 y1 q6 qr e5 e71 b2 b3 b4 b5 b6; lia)
/-- X's stands and trans, Q's trans -/
theorem y_trn [Inhabited gh_] (h : TS b F Mx Mq a) (h29 : 2 * Mx 1 29 + 4 ≤ a) (h76 : 2 * Mq 6 76 + 4 ≤ a) (hfl : Mx 1 7 + 8 * (1201 - a) + 1 ≤ 1000000000 - (gg_ : Int)) (hm : b = 1 → (mx = -1 ↔ st ≠ 0)) (hst : st = 0 ∨ st = 1)
    (hS : b = 1 → PTj (Mx 70) (LMT Mx) 12 (a, lc_ b Mx) ≠ none)
    (hK : ∀ F' M' N' a' v kk, TS b F' (Xn_ M' b kk a') (Qn_ N' b kk (M' 71 a')) a' → PRC b F F' (sX_ Mx mx) (tM_ Mq st mk) M' N' a a' 0 0 (Mq 6 76) → SEM b (sX_ Mx mx) (tM_ Mq st mk) M' N' v → (v = 0 ∨ v = 1) → kk = (if v = 0 then 6 else 0) → (b = 1 → Qn_ N' b kk (M' 71 a') 6 13 = 0 → kk = 0 ∧ N' 6 13 = 0) → (∀ lm, LOK b lm Mx M' → PTj (Mx 70) lm 12 (a, lc_ b Mx) = some (a', lc_ b M'))
      → (∀ (Kv : mm_ → Prop) (Qtq : qt_), Kv (Qn_ N' b kk (M' 71 a')) → Tr_ wd0 pg0 (dq + 16) 260 [.inr (.inr 6), .inl st, .inl mk] Mq (rv_ Kv) Qtq) → Kv (Xn_ M' b kk a'))
    (hQ : b = 0 → ∀ Mx', XSb Mx Mx' → (∀ (Kv : mm_ → Prop) (Qtq : qt_), (∀ M', sp_ M' → in9_ M' → M' 6 13 = Mx' 1 4 → P14 Mx' M' → QSb Mq M' → Kv M') → Tr_ wd0 pg0 (dq + 16) 260 [.inr (.inr 6), .inl st, .inl mk] Mq (rv_ Kv) Qtq) → Qt 8 Mx') :
    Tr_ wd0 pg0 (d + 1) 131 [.inr (.inr 1), .inl mx] Mx (rv_ fun M1 => Tr_ wd0 pg0 128 132 [.inr (.inr 1)] M1 (rv_ Kv) Qt) Qt := by
  have hp := TS_PS (mk := mk) h hm
  obtain ⟨_, _, _, _, ⟨u1, u2⟩, _⟩ := h
  have ha := ER_a (PS_E hp)
  have lk := LKP_X (b := b) (M1 := sX_ Mx mx) (Mx := Mx) (sX_r (by decide) (by decide) (by decide) (by decide) (by decide)) (sX_r (by decide) (by decide) (by decide) (by decide) (by decide)) (sX_1 (by decide)) (sX_1 (by decide))
  have e70 : sX_ Mx mx 70 = Mx 70 := sX_r (by decide) (by decide) (by decide) (by decide) (by decide)
  refine x_131 (by omega) ?_
  refine y_132 (dq := dq) hp hst (fun hb => ?_) (fun F' M' N' a' v kk P S hv hkk hE E3 hsy hq => ?_) (fun hb Mx' hx hq => ?_)
  · rw [e70, lk.2, lk.1.2.2.2 hb]; exact hS hb
  · have hE1 := P.2.1
    have p1 := PS_tr hp P (Int.le_refl _)
    have hpa := tk_p p1.1.1 hE1.1
    have hkc : kk = 0 ∨ (3 ≤ kk ∧ kk ≤ 6) := by rw [hkk]; split <;> (clear h29 h76 hfl hm hst hS hK hQ hp u1 u2 ha lk e70 P S hv hkk hE E3 hsy hq hE1 p1 hpa; omega)
    have w := p1.2.2.2.2.2.1
    have E2 := (ER_m (k := kk) (tk := a') hE1 hkc hpa (by (clear h29 h76 hfl hm hst hS hK hQ hp u1 u2 ha lk e70 P S hv hkk hE E3 hsy hq hE1 p1 hpa hkc; omega))).2.1
    refine hK F' M' N' a' v kk (PS_TS h29 h76 ⟨u1.1, u2.1⟩ hfl hp P hkc hE E2.2) P S hv hkk E3 (fun lm hlm => ?_) hq
    have l2 := (LOK_s lk.1 (LKP_P P) hlm).2
    have e := hsy lm l2
    rw [e70, lk.2] at e
    exact e
  · refine hQ hb Mx' (XSb_tr sX_XSb (XA_XSb hx)) (fun Kv Qtq hk => hq _ _ fun M' hsq => hk M' hsq.1 hsq.2.1 hsq.2.2.1 hsq.2.2.2.1 (QSb_tr tM_QSb (QA_QSb hsq.2.2.2.2)))
end TN
end T168_tn
section T169_st
/-! states: rows of stims -/
def stX_ (M : mm_) (w s : Int) : mm_ := up_ (up_ (up_ (up_ (up_ (up_ (up_ (up_ M 5 4 (M 5 4 + 1)) 133 (M 5 4) w) 134 (M 5 4) (M 1 18)) 135 (M 5 4) (M 1 34)) 136 (M 5 4) s) 138 (M 5 4) 0) 139 (M 5 4) (-1)) 140 (M 5 4) 0
def stQ_ (N : mm_) (w mk : Int) : mm_ := up_ (up_ (up_ (up_ (up_ (up_ (up_ (up_ (up_ N 192 (N 6 62) (N 6 61)) 193 (N 6 62) w) 194 (N 6 62) mk) 195 (N 6 62) 0) 196 (N 6 62) (-1)) 197 (N 6 62) (N 6 75)) 198 (N 6 62) (N 6 63)) 199 (N 6 62) (N 6 63)) 6 62 (N 6 62 + 1)
def stxL : List Nat := [133, 134, 135, 136, 138, 139, 140]
def stqL : List Nat := [192, 193, 194, 195, 196, 197, 198, 199]
section ST
variable {d : Nat} {M N : mm_} {w s mk : Int} {K : Int → mm_ → Prop} {Qt : qt_}
theorem x_171 [Inhabited gh_] (h2 : M 1 2 = 5) (h4 : 0 ≤ M 5 4 ∧ M 5 4 < 600) (h : K (M 5 4) (stX_ M w s)) : Tr_ wd0 pg0 (d + 1) 171 [.inr (.inr 1), .inl w, .inl s] M (ri_ K) Qt := t_171 fun V hV hW => b_171_0 (Tr_mono _) hV hW _ _ _ ⟨h2, h2, h2, h4, h2, h4, h2, h4, h2, h4, h2, h4, h2, h4, h2, h4, by rw [w32_id (by omega) (by omega)]; exact ri_i h⟩
theorem q_307g [Inhabited gh_] (hg : go_ N) (h62 : 0 ≤ N 6 62 ∧ N 6 62 < 1300) (h : K (N 6 62) (stQ_ N w mk)) : Tr_ wd0 pg0 (d + 2) 307 [.inr (.inr 6), .inl w, .inl mk] N (ri_ K) Qt := t_307 fun V hV hW => b_307_0 (Tr_mono _) hV hW _ _ _ (q_227g hg (by
  rw [if_pos rfl, w32_id (by omega) (by omega)]
  exact ⟨h62, h62, h62, h62, h62, h62, h62, h62, ri_i h⟩))
theorem q_307s [Inhabited gh_] (hs : sp_ N) (h : K (N 6 62) N) : Tr_ wd0 pg0 (d + 2) 307 [.inr (.inr 6), .inl w, .inl mk] N (ri_ K) Qt := t_307 fun V hV hW => b_307_0 (Tr_mono _) hV hW _ _ _ (q_227s hs (by
  rw [if_neg (by decide)]
  exact ri_i h))
theorem stX_r [Inhabited gh_] {r : Nat} (h5 : r ≠ 5) (h : r ∉ stxL) : stX_ M w s r = M r := by
  unfold stxL at h
  simp only [List.mem_cons, List.not_mem_nil, or_false, not_or] at h
  unfold stX_
  rw [up_ne h.2.2.2.2.2.2, up_ne h.2.2.2.2.2.1, up_ne h.2.2.2.2.1, up_ne h.2.2.2.1, up_ne h.2.2.1, up_ne h.2.1, up_ne h.1, up_ne h5]
theorem stX_5 [Inhabited gh_] {i : Int} (h : i ≠ 4) : stX_ M w s 5 i = M 5 i := by
  unfold stX_
  rw [up_ne (by decide), up_ne (by decide), up_ne (by decide), up_ne (by decide), up_ne (by decide), up_ne (by decide), up_ne (by decide), up_off h]
theorem stX_54 [Inhabited gh_] : stX_ M w s 5 4 = M 5 4 + 1 := by
  unfold stX_
  rw [up_ne (by decide), up_ne (by decide), up_ne (by decide), up_ne (by decide), up_ne (by decide), up_ne (by decide), up_ne (by decide), up_at]
theorem stX_o [Inhabited gh_] {r : Nat} {i : Int} (hr : r ∈ stxL) (h : i ≠ M 5 4) : stX_ M w s r i = M r i := by
  have h5 : r ≠ 5 := fun e => absurd hr (by rw [e]; decide)
  unfold stX_
  rw [up_of2 h, up_of2 h, up_of2 h, up_of2 h, up_of2 h, up_of2 h, up_of2 h, up_ne h5]
theorem stX_k [Inhabited gh_] : stX_ M w s 133 (M 5 4) = w ∧ stX_ M w s 134 (M 5 4) = M 1 18 ∧ stX_ M w s 135 (M 5 4) = M 1 34 ∧ stX_ M w s 136 (M 5 4) = s ∧ stX_ M w s 138 (M 5 4) = 0 ∧ stX_ M w s 139 (M 5 4) = -1 ∧ stX_ M w s 140 (M 5 4) = 0 := by
  unfold stX_
  refine ⟨?_, ?_, ?_, ?_, ?_, ?_, ?_⟩
  · rw [up_ne (by decide), up_ne (by decide), up_ne (by decide), up_ne (by decide), up_ne (by decide), up_ne (by decide), up_at]
  · rw [up_ne (by decide), up_ne (by decide), up_ne (by decide), up_ne (by decide), up_ne (by decide), up_at]
  · rw [up_ne (by decide), up_ne (by decide), up_ne (by decide), up_ne (by decide), up_at]
  · rw [up_ne (by decide), up_ne (by decide), up_ne (by decide), up_at]
  · rw [up_ne (by decide), up_ne (by decide), up_at]
  · rw [up_ne (by decide), up_at]
  · rw [up_at]
theorem stX_XSb [Inhabited gh_] : XSb M (stX_ M w s) := ⟨fun r hr => stX_r (fun e => hr (by rw [e]; decide)) (fun e => hr (by revert e; unfold stxL xbL; simp only [List.mem_cons, List.not_mem_nil, or_false]; (clear hr; lia))), fun i _ => by rw [stX_r (by decide) (by decide)], fun i _ h => stX_5 h⟩
theorem stQ_r [Inhabited gh_] {r : Nat} (h6 : r ≠ 6) (h : r ∉ stqL) : stQ_ N w mk r = N r := by
  unfold stqL at h
  simp only [List.mem_cons, List.not_mem_nil, or_false, not_or] at h
  unfold stQ_
  rw [up_ne h6, up_ne h.2.2.2.2.2.2.2, up_ne h.2.2.2.2.2.2.1, up_ne h.2.2.2.2.2.1, up_ne h.2.2.2.2.1, up_ne h.2.2.2.1, up_ne h.2.2.1, up_ne h.2.1, up_ne h.1]
theorem stQ_6 [Inhabited gh_] {i : Int} (h : i ≠ 62) : stQ_ N w mk 6 i = N 6 i := by
  unfold stQ_
  rw [up_off h, up_ne (by decide), up_ne (by decide), up_ne (by decide), up_ne (by decide), up_ne (by decide), up_ne (by decide), up_ne (by decide), up_ne (by decide)]
theorem stQ_62 [Inhabited gh_] : stQ_ N w mk 6 62 = N 6 62 + 1 := by unfold stQ_; rw [up_at]
theorem stQ_o [Inhabited gh_] {r : Nat} {i : Int} (hr : r ∈ stqL) (h : i ≠ N 6 62) : stQ_ N w mk r i = N r i := by
  have h6 : r ≠ 6 := fun e => absurd hr (by rw [e]; decide)
  unfold stQ_
  rw [up_ne h6, up_of2 h, up_of2 h, up_of2 h, up_of2 h, up_of2 h, up_of2 h, up_of2 h, up_of2 h]
theorem stQ_k [Inhabited gh_] : stQ_ N w mk 192 (N 6 62) = N 6 61 ∧ stQ_ N w mk 193 (N 6 62) = w ∧ stQ_ N w mk 194 (N 6 62) = mk ∧ stQ_ N w mk 195 (N 6 62) = 0 ∧ stQ_ N w mk 196 (N 6 62) = -1 ∧ stQ_ N w mk 197 (N 6 62) = N 6 75 ∧ stQ_ N w mk 198 (N 6 62) = N 6 63 ∧ stQ_ N w mk 199 (N 6 62) = N 6 63 := by
  unfold stQ_
  refine ⟨?_, ?_, ?_, ?_, ?_, ?_, ?_, ?_⟩
  · rw [up_ne (by decide), up_ne (by decide), up_ne (by decide), up_ne (by decide), up_ne (by decide), up_ne (by decide), up_ne (by decide), up_ne (by decide), up_at]
  · rw [up_ne (by decide), up_ne (by decide), up_ne (by decide), up_ne (by decide), up_ne (by decide), up_ne (by decide), up_ne (by decide), up_at]
  · rw [up_ne (by decide), up_ne (by decide), up_ne (by decide), up_ne (by decide), up_ne (by decide), up_ne (by decide), up_at]
  · rw [up_ne (by decide), up_ne (by decide), up_ne (by decide), up_ne (by decide), up_ne (by decide), up_at]
  · rw [up_ne (by decide), up_ne (by decide), up_ne (by decide), up_ne (by decide), up_at]
  · rw [up_ne (by decide), up_ne (by decide), up_ne (by decide), up_at]
  · rw [up_ne (by decide), up_ne (by decide), up_at]
  · rw [up_ne (by decide), up_at]
theorem stQ_QSb [Inhabited gh_] : QSb N (stQ_ N w mk) := ⟨fun r hr => stQ_r (fun e => hr (by rw [e]; decide)) (fun e => hr (by revert e; unfold stqL qbL; simp only [List.mem_cons, List.not_mem_nil, or_false]; (clear hr; lia))), fun i hi => stQ_6 (nm_i hi (by decide))⟩
end ST
end T169_st
section T170_ag
/-! states: whether a signal stands twice -/
def uoR (M : mm_) (s k : Int) : Prop := M 134 k = M 1 18 ∧ M 133 k < 2 ∧ M 136 k = s ∧ an_ (M 135 k) (M 1 34) ≠ 0
def uo_ (M : mm_) (s : Int) : Prop := ∃ k, (0 ≤ k ∧ k < M 5 4) ∧ uoR M s k
def agK (M : mm_) (mask k : Int) : Prop := M 192 k = M 6 61 ∧ an_ (an_ (M 194 k) mask) (w32 (sl_ 1 (M 174 (M 6 61)) - 1)) ≠ 0
def agT (M : mm_) (k : Int) : Int := if k = M 6 62 - 1 then M 6 63 else M 199 k
def ag_ (M : mm_) (mask who k0 : Int) : Prop := ∃ k, (k0 ≤ k ∧ k < M 6 62) ∧ agK M mask k ∧ ∃ i, (M 198 k ≤ i ∧ i < agT M k) ∧ M 200 i = who
section AG
variable {d : Nat} {M N : mm_} {s t x3 mask who p : Int} {Kv : mm_ → Prop} {Qt : qt_} {V : vv_}
theorem l_170 [Inhabited gh_] (hV : Cl_ wd0 (Tr_ wd0 pg0 (d + 1)) V (rv_ Kv) Qt m_170) (hW : Wk_ V) (h2 : M 1 2 = 5) (h4 : M 5 4 ≤ 600) (ht : 0 ≤ t ∧ t < 1202) (h7 : 0 ≤ M 1 7 ∧ M 1 7 < 2147483647) (hy : uo_ M s → Kv (nt1_ M 6 t)) (hn : ¬ uo_ M s → Kv M) : ∀ (n : Nat) (k : Int), M 5 4 - k ≤ (n : Int) → 0 ≤ k → k ≤ M 5 4 ∨ M 5 4 < 0 → (∀ j, 0 ≤ j → j < k → ¬ uoR M s j) → V 5 [rr 1, ii s, ii t, ii 0, ii k] [] M := by
  have fin : ∀ k, M 5 4 ≤ k → (∀ j, 0 ≤ j → j < k → ¬ uoR M s j) → V 5 [rr 1, ii s, ii t, ii 0, ii k] [] M := fun k hk hj => by
    refine b_170_5 (Tr_mono _) hV hW _ _ _ _ _ ⟨h2, ?_⟩
    rw [if_neg (by (clear hV hW h2 h4 ht h7 hy hn hj; omega)), if_pos rfl]
    exact rv_i (hn (fun ⟨j, ⟨j0, j1⟩, h⟩ => hj j j0 (by omega) h))
  intro n
  induction n with
  | zero => intro k hk k0 _ hj; exact fin k (by (clear hV hW h2 h4 ht h7 hy hn fin k0 hj; omega)) hj
  | succ n ih =>
    intro k hk k0 kk hj
    by_cases c : k < M 5 4
    · have nxt : ¬ uoR M s k → V 5 [rr 1, ii s, ii t, ii 0, ii (k + 1)] [] M := fun hk' => ih (k + 1) (by (clear hV hW h2 h4 ht h7 hy hn fin ih k0 kk hj c hk'; omega)) (by omega) (by omega) (fun j j0 j1 => by
        by_cases e : j = k
        · rw [e]; exact hk'
        · exact hj j j0 (by omega))
      refine b_170_5 (Tr_mono _) hV hW _ _ _ _ _ ⟨h2, ?_⟩
      have b6 : 0 ≤ k ∧ k < 600 := by omega
      rw [if_pos c, if_pos rfl, w32_id (by omega) (by omega)]
      refine ⟨h2, b6, ?_⟩
      by_cases c1 : M 134 k = M 1 18
      · rw [if_pos c1]
        refine ⟨h2, b6, ?_⟩
        by_cases c2 : M 133 k < 2
        · rw [if_pos c2]
          refine ⟨h2, b6, ?_⟩
          by_cases c3 : M 136 k = s
          · rw [if_pos c3]
            refine ⟨h2, b6, ?_⟩
            by_cases c4 : an_ (M 135 k) (M 1 34) = 0
            · rw [if_pos c4]; exact nxt (fun h => h.2.2.2 c4)
            · rw [if_neg c4]
              have hu : uo_ M s := ⟨k, ⟨k0, c⟩, c1, c2, c3, c4⟩
              refine b_170_5 (Tr_mono _) hV hW _ _ _ _ _ ⟨h2, ?_⟩
              by_cases c5 : k + 1 < M 5 4
              · rw [if_pos c5, if_neg (by decide), if_neg (by decide)]
                exact x_116 ht.1 ht.2 h7.1 h7.2 (rv_i (hy hu))
              · rw [if_neg c5, if_neg (by decide)]
                exact x_116 ht.1 ht.2 h7.1 h7.2 (rv_i (hy hu))
          · rw [if_neg c3]; exact nxt (fun h => c3 h.2.2.1)
        · rw [if_neg c2]; exact nxt (fun h => c2 h.2.1)
      · rw [if_neg c1]; exact nxt (fun h => c1 h.1)
    · exact fin k (by omega) hj
theorem x_170 [Inhabited gh_] (h2 : M 1 2 = 5) (h4 : 0 ≤ M 5 4 ∧ M 5 4 ≤ 600) (ht : 0 ≤ t ∧ t < 1202) (h7 : 0 ≤ M 1 7 ∧ M 1 7 < 2147483647) (hy : uo_ M s → Kv (nt1_ M 6 t)) (hn : ¬ uo_ M s → Kv M) : Tr_ wd0 pg0 (d + 2) 170 [.inr (.inr 1), .inl s, .inl t] M (rv_ Kv) Qt := t_170 fun V hV hW => b_170_0 (Tr_mono _) hV hW _ _ _ (l_170 hV hW h2 h4.2 ht h7 hy hn (M 5 4).toNat 0 (by omega) (by omega) (by omega) (fun j a b => by omega))
theorem ntQ_r [Inhabited gh_] {k : Int} {r : Nat} (h : r ≠ 6) : nt_ N k p r = N r := by
  unfold nt_ bf_; split
  · rfl
  · split
    · rw [up_ne h, up_ne h]
    · rfl
theorem ntQ_6 [Inhabited gh_] {k i : Int} (h1 : i ≠ 13) (h2 : i ≠ 14) : nt_ N k p 6 i = N 6 i := by
  unfold nt_ bf_; split
  · rfl
  · split
    · rw [up_off h2, up_off h1]
    · rfl
theorem ag_nt [Inhabited gh_] {k0 : Int} : ag_ (nt_ N 6 p) mask who k0 ↔ ag_ N mask who k0 := by
  unfold ag_ agK agT
  rw [ntQ_r (r := 192) (by decide), ntQ_r (r := 194) (by decide), ntQ_r (r := 174) (by decide), ntQ_r (r := 198) (by decide), ntQ_r (r := 199) (by decide), ntQ_r (r := 200) (by decide), ntQ_6 (i := 61) (by decide) (by decide), ntQ_6 (i := 62) (by decide) (by decide), ntQ_6 (i := 63) (by decide) (by decide)]
theorem l_309b [Inhabited gh_] (hV : Cl_ wd0 (Tr_ wd0 pg0 (d + 1)) V (rv_ Kv) Qt m_309) (hW : Wk_ V) {k to : Int} (hk : 0 ≤ k ∧ k < 1300) (hto : to ≤ 1300) : ∀ (n : Nat) (i : Int) (N : mm_), to - i ≤ (n : Int) → 0 ≤ i → ((∃ j, (i ≤ j ∧ j < to) ∧ N 200 j = who) → V 11 [rr 6, ii mask, ii who, ii p, ii (k + 1), none, none] [] (nt_ N 6 p)) → ((¬ ∃ j, (i ≤ j ∧ j < to) ∧ N 200 j = who) → V 11 [rr 6, ii mask, ii who, ii p, ii (k + 1), none, none] [] N) → V 99 [rr 6, ii mask, ii who, ii p, ii k, ii to, ii i] [] N := by
  have fin : ∀ (i : Int) (N : mm_), to ≤ i → ((¬ ∃ j, (i ≤ j ∧ j < to) ∧ N 200 j = who) → V 11 [rr 6, ii mask, ii who, ii p, ii (k + 1), none, none] [] N) → V 99 [rr 6, ii mask, ii who, ii p, ii k, ii to, ii i] [] N := fun i N hi h0 => by
    refine b_309_99 (Tr_mono _) hV hW _ _ _ _ _ _ _ ?_
    rw [if_neg (by omega), w32_id (by omega) (by omega)]
    exact h0 (fun ⟨j, h, _⟩ => by omega)
  intro n
  induction n with
  | zero => intro i N hn _ _ h0; exact fin i N (by omega) h0
  | succ n ih =>
    intro i N hn i0 h1 h0
    by_cases c : i < to
    · refine b_309_99 (Tr_mono _) hV hW _ _ _ _ _ _ _ ?_
      rw [if_pos c, w32_id (by omega) (by (clear hV hW hk fin ih hn i0 h1 h0; omega))]
      refine ⟨by omega, ?_⟩
      by_cases c2 : N 200 i = who
      · rw [if_pos c2]
        have g := h1 ⟨i, ⟨Int.le_refl _, c⟩, c2⟩
        refine q_236 (ih (i + 1) _ (by omega) (by (clear hV hW hk hto fin ih hn h1 h0 c c2 g; omega)) (fun _ => by rw [nt_nt]; exact g) (fun _ => g))
      · rw [if_neg c2]
        refine ih (i + 1) N (by omega) (by (clear hV hW hk hto fin ih hn h1 h0 c c2; lia)) (fun ⟨j, h, e⟩ => h1 ⟨j, ⟨by omega, h.2⟩, e⟩) (fun h => h0 (fun ⟨j, hj, e⟩ => h ⟨j, ⟨?_, hj.2⟩, e⟩))
        have : j ≠ i := fun e' => c2 (by rw [← e']; exact e)
        omega
    · exact fin i N (by omega) h0
theorem l_309 [Inhabited gh_] (hV : Cl_ wd0 (Tr_ wd0 pg0 (d + 1)) V (rv_ Kv) Qt m_309) (hW : Wk_ V) : ∀ (n : Nat) (k : Int) (N : mm_), N 6 62 - k ≤ (n : Int) → 0 ≤ k → N 6 62 ≤ 1300 → (0 ≤ N 6 61 ∧ N 6 61 < 6) → (∀ j, 0 ≤ j → j < N 6 62 → 0 ≤ N 198 j ∧ agT N j ≤ 1300) → (ag_ N mask who k → Kv (nt_ N 6 p)) → (¬ ag_ N mask who k → Kv N) → V 11 [rr 6, ii mask, ii who, ii p, ii k, none, none] [] N := by
  have fin : ∀ (k : Int) (N : mm_), N 6 62 ≤ k → (¬ ag_ N mask who k → Kv N) → V 11 [rr 6, ii mask, ii who, ii p, ii k, none, none] [] N := fun k N hk h0 => by
    refine b_309_11 (Tr_mono _) hV hW _ _ _ _ _ ?_
    rw [if_neg (by omega)]
    exact rv_i (h0 (fun ⟨j, h, _⟩ => by (clear hV hW h0; omega)))
  intro n
  induction n with
  | zero => intro k N hn _ _ _ _ _ h0; exact fin k N (by omega) h0
  | succ n ih =>
    intro k N hn k0 h62 h61 hrow h1 h0
    by_cases c : k < N 6 62
    · have bk : 0 ≤ k ∧ k < 1300 := by omega
      have skip : (¬ (agK N mask k ∧ ∃ i, (N 198 k ≤ i ∧ i < agT N k) ∧ N 200 i = who)) → V 11 [rr 6, ii mask, ii who, ii p, ii (k + 1), none, none] [] N := fun hk => by
        refine ih (k + 1) N (by (clear hV hW fin ih k0 h62 h61 hrow h1 h0 c bk hk; omega)) (by omega) h62 h61 hrow (fun ⟨j, h, g⟩ => h1 ⟨j, ⟨by omega, h.2⟩, g⟩) (fun h => h0 (fun ⟨j, hj, g⟩ => h ⟨j, ⟨?_, hj.2⟩, g⟩))
        have : j ≠ k := fun e => hk (by rw [← e]; exact g)
        (clear hV hW fin ih hn k0 h62 h61 hrow h1 h0 c bk hk h; omega)
      have hit : (agK N mask k ∧ ∃ i, (N 198 k ≤ i ∧ i < agT N k) ∧ N 200 i = who) → V 11 [rr 6, ii mask, ii who, ii p, ii (k + 1), none, none] [] (nt_ N 6 p) := fun hk => by
        have g := h1 ⟨k, ⟨Int.le_refl _, c⟩, hk⟩
        have e62 : nt_ N 6 p 6 62 = N 6 62 := ntQ_6 (by decide) (by decide)
        refine ih (k + 1) (nt_ N 6 p) (by rw [e62]; omega) (by (clear hV hW fin ih hn h62 h61 hrow h1 h0 c skip g e62; omega)) (by rw [e62]; exact h62) (by rw [ntQ_6 (by decide) (by decide)]; exact h61) (fun j a b => ?_) (fun _ => by rw [nt_nt]; exact g) (fun _ => g)
        rw [e62] at b
        unfold agT
        rw [ntQ_r (r := 198) (by decide), ntQ_r (r := 199) (by decide), e62, ntQ_6 (i := 63) (by decide) (by decide)]
        exact hrow j a b
      refine b_309_11 (Tr_mono _) hV hW _ _ _ _ _ ?_
      rw [if_pos c, w32_id (x := k + 1) (by omega) (by omega), w32_id (x := N 6 62 - 1) (by omega) (by omega)]
      refine ⟨bk, ?_⟩
      have hr := hrow k k0 c
      by_cases c1 : N 192 k = N 6 61
      · rw [if_pos c1]
        refine ⟨bk, h61, ?_⟩
        by_cases c2 : an_ (an_ (N 194 k) mask) (w32 (sl_ 1 (N 174 (N 6 61)) - 1)) = 0
        · rw [if_pos c2]; exact skip (fun h => h.1.2 c2)
        · rw [if_neg c2]
          have go : V 99 [rr 6, ii mask, ii who, ii p, ii k, ii (agT N k), ii (N 198 k)] [] N := l_309b hV hW bk hr.2 (agT N k - N 198 k).toNat _ N (by omega) hr.1 (fun h => hit ⟨⟨c1, c2⟩, h⟩) (fun h => skip (fun g => h g.2))
          unfold agT at go
          by_cases c3 : k = N 6 62 - 1
          · rw [if_pos c3]; rw [if_pos c3] at go; exact ⟨bk, go⟩
          · rw [if_neg c3]; rw [if_neg c3] at go; exact ⟨bk, bk, go⟩
      · rw [if_neg c1]; exact skip (fun h => c1 h.1.1)
    · exact fin k N (by (clear hV hW fin ih hn k0 h62 h61 hrow h1 h0; lia)) h0
theorem q_309 [Inhabited gh_] (h16 : N 6 16 = 1) (h62 : N 6 62 ≤ 1300) (h61 : 0 ≤ N 6 61 ∧ N 6 61 < 6) (hrow : ∀ j, 0 ≤ j → j < N 6 62 → 0 ≤ N 198 j ∧ agT N j ≤ 1300) (h1 : ag_ N mask who 0 → Kv (nt_ N 6 p)) (h0 : ¬ ag_ N mask who 0 → Kv N) : Tr_ wd0 pg0 (d + 2) 309 [.inr (.inr 6), .inl mask, .inl who, .inl p] N (rv_ Kv) Qt := t_309 fun V hV hW => b_309_0 (Tr_mono _) hV hW _ _ _ _ (fun _ => by
  rw [if_neg (by (clear h62 h61 hrow h1 h0 hV hW; lia))]
  exact l_309 hV hW (N 6 62).toNat 0 N (by (clear h16 h62 h61 hrow h1 h0 hV hW; omega)) (by omega) h62 h61 hrow h1 h0)
theorem q_309z [Inhabited gh_] (h16 : N 6 16 = 0) (h : Kv N) : Tr_ wd0 pg0 (d + 2) 309 [.inr (.inr 6), .inl mask, .inl who, .inl p] N (rv_ Kv) Qt := t_309 fun V hV hW => b_309_0 (Tr_mono _) hV hW _ _ _ _ (fun _ => by
  rw [if_pos h16]
  exact rv_i h)
end AG
end T170_ag
section T171_sr
/-! states: masks; X's stims against Q's -/
section SRa
variable {x y m n s : Int}
theorem an_bt [Inhabited gh_] (hx : 0 ≤ x ∧ x < 2147483648) (hy : 0 ≤ y ∧ y < 2147483648) : (0 ≤ an_ x y ∧ an_ x y < 2147483648) ∧ (∀ l : Int, 0 ≤ l → (bt_ (an_ x y) l ↔ bt_ x l ∧ bt_ y l)) := by
  obtain ⟨a, ha⟩ := Int.eq_ofNat_of_zero_le hx.1
  obtain ⟨c, hc⟩ := Int.eq_ofNat_of_zero_le hy.1
  have e : an_ x y = ((a &&& c : Nat) : Int) := by rw [ha, hc]; exact an_nat (by (clear hy hc; omega)) (by omega)
  have hl : a &&& c ≤ a := Nat.and_le_left
  rw [e]
  refine ⟨⟨by (clear hx hy ha hc e hl; omega), by (clear hy hc e; omega)⟩, fun l l0 => ?_⟩
  unfold bt_
  rw [ha, hc, Int.toNat_natCast, Int.toNat_natCast, Int.toNat_natCast, Nat.testBit_and, Bool.and_eq_true]
theorem bt_ne [Inhabited gh_] (hx : 0 ≤ x) : x ≠ 0 ↔ ∃ l : Int, 0 ≤ l ∧ bt_ x l := by
  obtain ⟨a, ha⟩ := Int.eq_ofNat_of_zero_le hx
  constructor
  · intro h
    have h0 : a ≠ 0 := fun e => h (by rw [ha, e]; rfl)
    obtain ⟨i, hi⟩ := Nat.exists_testBit_of_ne_zero h0
    refine ⟨(i : Int), by omega, ?_⟩
    unfold bt_
    rw [ha, Int.toNat_natCast, Int.toNat_natCast]; exact hi
  · rintro ⟨l, l0, h⟩ e
    unfold bt_ at h
    rw [e] at h
    have z : (0 : Int).toNat = 0 := rfl
    rw [z, Nat.zero_testBit] at h
    exact absurd h (by decide)
theorem ones_bt [Inhabited gh_] (h : 0 ≤ n ∧ n ≤ 12) : (0 ≤ w32 (sl_ 1 n - 1) ∧ w32 (sl_ 1 n - 1) < 4096) ∧ ∀ l : Int, 0 ≤ l → (bt_ (w32 (sl_ 1 n - 1)) l ↔ l < n) := by
  obtain ⟨k, hk⟩ := Int.eq_ofNat_of_zero_le h.1
  have hk12 : k ≤ 12 := by omega
  have hp : (2 : Nat) ^ k ≤ 2 ^ 12 := Nat.pow_le_pow_right (by decide) hk12
  have hp1 : 1 ≤ (2 : Nat) ^ k := Nat.one_le_two_pow
  have e : w32 (sl_ 1 n - 1) = ((2 ^ k - 1 : Nat) : Int) := by
    rw [hk, sl_1 (by omega), w32_id (by omega) (by omega)]; omega
  rw [e]
  refine ⟨by omega, fun l l0 => ?_⟩
  obtain ⟨i, hi⟩ := Int.eq_ofNat_of_zero_le l0
  unfold bt_
  rw [hi, Int.toNat_natCast, Int.toNat_natCast, Nat.testBit_two_pow_sub_one, decide_eq_true_eq, hk]
  omega
/-- X's mask and Q's mean the same states (n states there are) -/
def MB (n x y : Int) : Prop := (0 ≤ x ∧ x < 4096) ∧ (0 ≤ y ∧ y < 4096) ∧ ∀ l : Int, 0 ≤ l → (bt_ x l ↔ bt_ y l ∧ l < n)
theorem MB_an [Inhabited gh_] {x' y' : Int} (hn : 0 ≤ n ∧ n ≤ 12) (h : MB n x y) (h' : MB n x' y') : an_ x x' ≠ 0 ↔ an_ (an_ y y') (w32 (sl_ 1 n - 1)) ≠ 0 := by
  obtain ⟨a1, a2, a3⟩ := h
  obtain ⟨b1, b2, b3⟩ := h'
  have p := an_bt (x := x) (y := x') (by omega) (by omega)
  have q := an_bt (x := y) (y := y') (by omega) (by omega)
  have o := ones_bt hn
  have r := an_bt (x := an_ y y') (y := w32 (sl_ 1 n - 1)) q.1 (by omega)
  rw [bt_ne p.1.1, bt_ne r.1.1]
  constructor
  · rintro ⟨l, l0, h⟩
    have h1 := (p.2 l l0).mp h
    have h2 := (a3 l l0).mp h1.1
    have h3 := (b3 l l0).mp h1.2
    exact ⟨l, l0, (r.2 l l0).mpr ⟨(q.2 l l0).mpr ⟨h2.1, h3.1⟩, (o.2 l l0).mpr h2.2⟩⟩
  · rintro ⟨l, l0, h⟩
    have h1 := (r.2 l l0).mp h
    have h2 := (q.2 l l0).mp h1.1
    have h3 := (o.2 l l0).mp h1.2
    exact ⟨l, l0, (p.2 l l0).mpr ⟨(a3 l l0).mpr ⟨h2.1, h3⟩, (b3 l l0).mpr ⟨h2.2, h3⟩⟩⟩
end SRa
end T171_sr
section T172_sr
/-! states: X's stims against Q's -/
def nSt (N : mm_) (k : Int) : Int := if N 193 k < 2 then agT N k - N 198 k else 1
/-- a row of Q's stims, and X's rows for it from c on -/
def SRK (Mx Mq : mm_) (c k : Int) : Prop := (0 ≤ Mq 192 k ∧ Mq 192 k < 6) ∧ (0 ≤ Mq 193 k ∧ Mq 193 k ≤ 3) ∧ (0 ≤ Mq 198 k ∧ Mq 198 k ≤ agT Mq k ∧ agT Mq k ≤ Mq 6 63) ∧ (2 ≤ Mq 193 k → agT Mq k = Mq 198 k)
  ∧ ∀ j, 0 ≤ j → j < nSt Mq k → Mx 133 (c + j) = Mq 193 k ∧ Mx 134 (c + j) = Mq 192 k ∧ MB (Mx 123 (Mq 192 k)) (Mx 135 (c + j)) (Mq 194 k) ∧ (Mq 193 k < 2 → Mx 136 (c + j) = Mq 200 (Mq 198 k + j))
def SRW (Mx Mq : mm_) (xs : Int → Int) : Prop := (0 ≤ Mq 6 62 ∧ xs 0 = 0 ∧ xs (Mq 6 62) = Mx 5 4) ∧ ∀ k, 0 ≤ k → k < Mq 6 62 → xs (k + 1) = xs k + nSt Mq k ∧ SRK Mx Mq (xs k) k
section SRb
variable {Mx Mq : mm_} {xs : Int → Int} {s mask T : Int}
theorem SRK_n [Inhabited gh_] {c k : Int} (h : SRK Mx Mq c k) : 0 ≤ nSt Mq k := by
  unfold nSt; obtain ⟨_, _, h3, _⟩ := h; split <;> omega
theorem SRW_f [Inhabited gh_] (h : SRW Mx Mq xs) : ∀ n : Nat, (n : Int) ≤ Mq 6 62 → 0 ≤ xs n ∧ (∀ k, 0 ≤ k → k ≤ (n : Int) → xs k ≤ xs n) ∧ ∀ y, 0 ≤ y → y < xs n → ∃ k j, (0 ≤ k ∧ k < (n : Int)) ∧ (0 ≤ j ∧ j < nSt Mq k) ∧ y = xs k + j
  | 0, _ => by
    have e : xs ((0 : Nat) : Int) = 0 := h.1.2.1
    refine ⟨by omega, fun k a b => ?_, fun y a b => by omega⟩
    rw [show k = ((0 : Nat) : Int) by omega]; exact Int.le_refl _
  | n + 1, hn => by
    obtain ⟨g1, g2, g3⟩ := SRW_f h n (by omega)
    obtain ⟨e, hk⟩ := h.2 (n : Int) (by omega) (by omega)
    have n0 := SRK_n hk
    have e' : xs ((n + 1 : Nat) : Int) = xs n + nSt Mq n := by rw [show ((n + 1 : Nat) : Int) = (n : Int) + 1 by omega]; exact e
    refine ⟨by omega, fun k a b => ?_, fun y a b => ?_⟩
    · by_cases c : k = ((n + 1 : Nat) : Int)
      · rw [c]; exact Int.le_refl _
      · have := g2 k a (by omega); (clear h hn g1 g2 g3 hk a b c; omega)
    · by_cases c : y < xs n
      · obtain ⟨k, j, hk, hj, ey⟩ := g3 y a c
        exact ⟨k, j, ⟨hk.1, by omega⟩, hj, ey⟩
      · exact ⟨n, y - xs n, ⟨by omega, by omega⟩, ⟨by omega, by omega⟩, by omega⟩
theorem SRW_m [Inhabited gh_] (h : SRW Mx Mq xs) {k : Int} (h0 : 0 ≤ k) (h1 : k < Mq 6 62) : 0 ≤ xs k ∧ xs k + nSt Mq k ≤ Mx 5 4 := by
  have f1 := SRW_f h k.toNat (by omega)
  rw [show ((k.toNat : Nat) : Int) = k by omega] at f1
  have f2 := SRW_f h (Mq 6 62).toNat (by (clear h f1; lia))
  rw [show (((Mq 6 62).toNat : Nat) : Int) = Mq 6 62 by omega] at f2
  have := f2.2.1 (k + 1) (by omega) (by omega)
  rw [(h.2 k h0 h1).1, h.1.2.2] at this
  exact ⟨f1.1, this⟩
/-- the same signal stands twice for X iff it does for Q -/
theorem uo_ag [Inhabited gh_] (h : SRW Mx Mq xs) (h18 : Mq 6 61 = Mx 1 18) (h123 : 0 ≤ Mx 123 (Mx 1 18) ∧ Mx 123 (Mx 1 18) ≤ 12) (h174 : Mq 174 (Mx 1 18) = Mx 123 (Mx 1 18)) (hm : MB (Mx 123 (Mx 1 18)) (Mx 1 34) mask) : uo_ Mx s ↔ ag_ Mq mask s 0 := by
  constructor
  · rintro ⟨y, ⟨y0, y1⟩, u1, u2, u3, u4⟩
    have f2 := SRW_f h (Mq 6 62).toNat (by have := h.1.1; (clear h h18 h123 h174 hm y0 y1 u1 u2 u3 u4; omega))
    rw [show (((Mq 6 62).toNat : Nat) : Int) = Mq 6 62 by have := h.1.1; (clear h h18 h123 h174 hm y0 y1 u1 u2 u3 u4 f2; lia), h.1.2.2] at f2
    obtain ⟨k, j, hk, hj, ey⟩ := f2.2.2 y y0 y1
    obtain ⟨e, r1, r2, r3, r4, r5⟩ := h.2 k hk.1 hk.2
    obtain ⟨q1, q2, q3, q4⟩ := r5 j hj.1 hj.2
    rw [ey] at u1 u2 u3 u4
    rw [q1] at u2
    rw [q2] at u1
    have hn : nSt Mq k = agT Mq k - Mq 198 k := by unfold nSt; rw [if_pos u2]
    refine ⟨k, hk, ⟨by rw [h18]; exact u1, ?_⟩, Mq 198 k + j, ⟨by (clear h h18 h123 h174 hm y0 y1 f2 u4 u3 u2 u1 hk ey e r1 r2 r3 r4 r5 q1 q2 q3 q4 hn; omega), by (clear h h18 h123 h174 hm y0 y1 f2 u4 u3 u2 u1 hk ey r1 r2 r3 r4 r5 q1 q2 q3 q4; omega)⟩, by rw [← q4 u2]; exact u3⟩
    rw [u1] at q3
    rw [h18, h174]
    exact (MB_an h123 q3 hm).mp u4
  · rintro ⟨k, hk, ⟨a1, a2⟩, i, hi, a3⟩
    obtain ⟨e, r1, r2, r3, r4, r5⟩ := h.2 k hk.1 hk.2
    have k2 : Mq 193 k < 2 := by
      by_cases c : Mq 193 k < 2
      · exact c
      · have := r4 (by omega); omega
    have hn : nSt Mq k = agT Mq k - Mq 198 k := by unfold nSt; rw [if_pos k2]
    obtain ⟨q1, q2, q3, q4⟩ := r5 (i - Mq 198 k) (by (clear h h18 h123 h174 hm hk a1 a2 a3 e r1 r2 r3 r4 r5 k2; omega)) (by (clear h h18 h123 h174 hm hk a1 a2 a3 e r1 r2 r3 r4 r5 k2; omega))
    have m := SRW_m h hk.1 hk.2
    rw [h18] at a1
    rw [h18, h174] at a2
    rw [a1] at q3
    refine ⟨xs k + (i - Mq 198 k), ⟨by (clear h h18 h123 h174 hm hk a1 a2 a3 e r1 r2 r3 r4 r5 k2 q1 q2 q3 q4; omega), by (clear h h18 h123 h174 hm hk a1 a2 a3 e r1 r2 r3 r4 r5 k2 q1 q2 q3 q4; omega)⟩, by rw [q2]; exact a1, by rw [q1]; exact k2, ?_, (MB_an h123 q3 hm).mpr a2⟩
    rw [q4 k2, show Mq 198 k + (i - Mq 198 k) = i by (clear h h18 h123 h174 hm hk a1 a2 hi a3 e r1 r2 r3 r4 r5 k2 hn q1 q2 q3 q4 m; lia)]; exact a3
end SRb
end T172_sr
section T173_si
/-! states: a stim, an in more -/
def inM_ (N : mm_) (who : Int) : mm_ := up_ (up_ (up_ N 200 (N 6 63) who) 201 (N 6 63) 0) 6 63 (N 6 63 + 1)
def sot (Mq : mm_) (v : Int) : Int := if tmr Mq v = -1 then sgl Mq v else 100 + tmr Mq v
section SI
variable {d : Nat} {Mx Mq : mm_} {xs : Int → Int} {s w mk t : Int} {K : Int → mm_ → Prop} {Qt : qt_}
theorem x_172 [Inhabited gh_] (hT : Tks Mx Mq) (hV : VT Mx Mq) (h9 : sgl9 Mx Mq) (ht : nm9_ Mx t) (h : K (sot Mq (Mq 151 t)) Mx) : Tr_ wd0 pg0 (d + 4) 172 [.inr (.inr 1), .inl t] Mx (ri_ K) Qt := by
  refine t_172 fun V hV' hW => b_172_0 (Tr_mono _) hV' hW _ _ (x_129R hT hV ht ?_)
  unfold sot at h
  have r := tmr_r hV (v := Mq 151 t)
  by_cases c : tmr Mq (Mq 151 t) = -1
  · rw [if_pos c]; rw [if_pos c] at h
    exact x_112R hT hV h9 ht (ri_i h)
  · rw [if_neg c]; rw [if_neg c] at h
    have b3 : Mq 173 (Mq 6 61) ≤ 3 := by have := hV.2.2.2.2.2; rw [hV.2.1]; (clear hT hV h9 ht h hV' hW r c; omega)
    rw [w32_id (by omega) (by omega)]
    exact ri_i h
theorem inM_r [Inhabited gh_] {who : Int} {r : Nat} (h6 : r ≠ 6) (h0 : r ≠ 200) (h1 : r ≠ 201) : inM_ Mq who r = Mq r := by unfold inM_; rw [up_ne h6, up_ne h1, up_ne h0]
theorem inM_6 [Inhabited gh_] {who i : Int} (h : i ≠ 63) : inM_ Mq who 6 i = Mq 6 i := by unfold inM_; rw [up_off h, up_ne (by decide), up_ne (by decide)]
theorem inM_63 [Inhabited gh_] {who : Int} : inM_ Mq who 6 63 = Mq 6 63 + 1 := by unfold inM_; rw [up_at]
theorem inM_200 [Inhabited gh_] {who i : Int} : inM_ Mq who 200 i = if i = Mq 6 63 then who else Mq 200 i := by
  unfold inM_; rw [up_ne (by decide), up_ne (by decide)]
  by_cases c : i = Mq 6 63
  · rw [if_pos c, c, up_at]
  · rw [if_neg c, up_of2 c]
theorem inM_QSb [Inhabited gh_] {who : Int} : QSb Mq (inM_ Mq who) := ⟨fun r hr => inM_r (fun e => hr (by rw [e]; decide)) (fun e => hr (by rw [e]; decide)) (fun e => hr (by rw [e]; decide)), fun i hi => inM_6 (nm_i hi (by decide))⟩
/-- an in more, of the last stim -/
theorem SRW_in [Inhabited gh_] (h : SRW Mx Mq xs) (hk : 0 < Mq 6 62) (hw : w = 0 ∨ w = 1) (e3 : Mq 193 (Mq 6 62 - 1) = w) (e2 : Mq 192 (Mq 6 62 - 1) = Mx 1 18) (hm : MB (Mx 123 (Mx 1 18)) (Mx 1 34) (Mq 194 (Mq 6 62 - 1))) : ∃ xs', SRW (stX_ Mx w s) (inM_ Mq s) xs' := by
  have e62 : inM_ Mq s 6 62 = Mq 6 62 := inM_6 (by decide)
  have kr := stX_k (M := Mx) (w := w) (s := s)
  have x123 : stX_ Mx w s 123 = Mx 123 := stX_r (by decide) (by decide)
  have aT : ∀ k, k < Mq 6 62 - 1 → agT (inM_ Mq s) k = agT Mq k := fun k hk => by
    unfold agT; rw [e62, if_neg (by (clear h hw e3 e2 hm kr x123; omega)), if_neg (by omega), inM_r (by decide) (by decide) (by decide)]
  have aL : agT (inM_ Mq s) (Mq 6 62 - 1) = Mq 6 63 + 1 := by unfold agT; rw [e62, if_pos rfl, inM_63]
  have aL0 : agT Mq (Mq 6 62 - 1) = Mq 6 63 := by unfold agT; rw [if_pos rfl]
  have r192 : inM_ Mq s 192 = Mq 192 := inM_r (by decide) (by decide) (by decide)
  have r193 : inM_ Mq s 193 = Mq 193 := inM_r (by decide) (by decide) (by decide)
  have r194 : inM_ Mq s 194 = Mq 194 := inM_r (by decide) (by decide) (by decide)
  have r198 : inM_ Mq s 198 = Mq 198 := inM_r (by decide) (by decide) (by decide)
  refine ⟨fun k => if k = Mq 6 62 then Mx 5 4 + 1 else xs k, ⟨by rw [e62]; exact h.1.1, ?_, ?_⟩, fun k k0 k1 => ?_⟩
  · show (if (0 : Int) = Mq 6 62 then Mx 5 4 + 1 else xs 0) = 0
    rw [if_neg (by omega)]; exact h.1.2.1
  · show (if inM_ Mq s 6 62 = Mq 6 62 then Mx 5 4 + 1 else xs (inM_ Mq s 6 62)) = _
    rw [if_pos e62, stX_54]
  · rw [e62] at k1
    obtain ⟨e, g1, g2, g3, g4, g5⟩ := h.2 k k0 k1
    have m := SRW_m h k0 k1
    show (if k + 1 = Mq 6 62 then Mx 5 4 + 1 else xs (k + 1)) = (if k = Mq 6 62 then Mx 5 4 + 1 else xs k) + nSt (inM_ Mq s) k ∧ SRK (stX_ Mx w s) (inM_ Mq s) (if k = Mq 6 62 then Mx 5 4 + 1 else xs k) k
    rw [if_neg (show ¬ k = Mq 6 62 by (clear h hk hw e3 e2 hm kr x123 aT aL aL0 r192 r193 r194 r198 k0 e g1 g2 g3 g4 g5 m; omega))]
    have old : ∀ j, 0 ≤ j → j < nSt Mq k → stX_ Mx w s 133 (xs k + j) = Mq 193 k ∧ stX_ Mx w s 134 (xs k + j) = Mq 192 k ∧ MB (Mx 123 (Mq 192 k)) (stX_ Mx w s 135 (xs k + j)) (Mq 194 k) ∧ (Mq 193 k < 2 → stX_ Mx w s 136 (xs k + j) = inM_ Mq s 200 (Mq 198 k + j)) := fun j j0 j1 => by
      obtain ⟨q1, q2, q3, q4⟩ := g5 j j0 j1
      rw [stX_o (r := 133) (by decide) (by (clear h hk hw e3 e2 hm e62 kr x123 aT aL aL0 r192 r193 r194 r198 k0 k1 e g1 g2 g3 g4 g5 j0 q1 q2 q3 q4; omega)), stX_o (r := 134) (by decide) (by omega), stX_o (r := 135) (by decide) (by omega), stX_o (r := 136) (by decide) (by omega)]
      refine ⟨q1, q2, q3, fun h2 => ?_⟩
      have hn : nSt Mq k = agT Mq k - Mq 198 k := by unfold nSt; rw [if_pos h2]
      rw [inM_200, if_neg (by (clear h hk hw e3 e2 hm e62 kr x123 aT aL r192 r193 r194 r198 k0 k1 e g1 g2 g4 g5 m j0 q1 q2 q3 q4 h2; omega))]; exact q4 h2
    by_cases c : k = Mq 6 62 - 1
    · have k2 : Mq 193 k < 2 := by rw [c, e3]; (clear h hk e3 e2 hm e62 x123 aT aL aL0 r192 r193 r194 r198 k0 k1 e g1 g2 g3 g5 m old c; omega)
      have n0 : nSt Mq k = agT Mq k - Mq 198 k := by unfold nSt; rw [if_pos k2]
      have n1 : nSt (inM_ Mq s) k = nSt Mq k + 1 := by
        rw [n0]; unfold nSt; rw [r193, if_pos k2, r198, c, aL, aL0]; (clear h hk hw e3 e2 hm e62 kr x123 aT aL aL0 r192 r193 r194 r198 k0 k1 e g1 g2 g3 g4 g5 m old c k2 n0; lia)
      have ex : xs k + nSt Mq k = Mx 5 4 := by rw [← e, c, show Mq 6 62 - 1 + 1 = Mq 6 62 by omega]; exact h.1.2.2
      refine ⟨by rw [if_pos (by (clear h hk hw e3 e2 hm kr x123 aT aL aL0 r192 r193 r194 r198 k0 k1 e g1 g2 g3 g4 g5 m old k2 n0 n1 ex; lia)), n1]; (clear h hk hw e3 e2 hm e62 kr x123 aT aL aL0 r192 r193 r194 r198 k0 k1 e g1 g2 g3 g4 g5 m old c k2; lia), by rw [r192]; exact g1, by rw [r193]; exact g2, by rw [r198, c, aL, inM_63]; rw [c, aL0] at g3; (clear h hk hw e3 e2 hm e62 kr x123 aT aL r192 r193 r194 r198 k0 k1 e g1 g2 g4 g5 m old c k2 n0 n1 ex; omega), fun h2 => by rw [r193] at h2; (clear h hk hw e3 e2 hm e62 kr x123 aT aL aL0 r192 r193 r194 r198 k0 k1 e g1 g3 g4 g5 m old c n0 n1 ex; omega), fun j j0 j1 => ?_⟩
      rw [n1] at j1
      rw [r192, r193, r194, r198, x123]
      by_cases cj : j < nSt Mq k
      · exact old j j0 cj
      · have ej : xs k + j = Mx 5 4 := by (clear h hk hw e3 e2 hm e62 kr x123 aT aL aL0 r192 r193 r194 r198 k0 k1 e g1 g2 g3 g4 g5 m old c k2 j0; lia)
        have ei : Mq 198 k + j = Mq 6 63 := by rw [c, aL0] at n0; rw [c]; rw [c] at cj j1; (clear h hk hw e3 e2 hm e62 kr x123 aT aL r192 r193 r194 r198 k0 k1 e g1 g2 g3 g4 g5 m old c k2 n1 ex j0 ej; omega)
        rw [ej, kr.1, kr.2.1, kr.2.2.1, kr.2.2.2.1, ei, inM_200, if_pos rfl, c, e3, e2]
        exact ⟨rfl, rfl, hm, fun _ => rfl⟩
    · have n1 : nSt (inM_ Mq s) k = nSt Mq k := by unfold nSt; rw [r193, r198, aT k (by (clear h hk hw e3 e2 hm kr x123 aT aL aL0 r192 r193 r194 r198 k0 e g1 g2 g3 g4 g5 m old; omega))]
      refine ⟨by rw [if_neg (by (clear h hk hw e3 e2 hm kr x123 aT aL aL0 r192 r193 r194 r198 k0 k1 e g1 g2 g3 g4 g5 m old n1; omega)), n1]; exact e, by rw [r192]; exact g1, by rw [r193]; exact g2, by rw [r198, aT k (by omega), inM_63]; (clear h hk hw e3 e2 hm e62 kr x123 aT aL r192 r193 r194 r198 k0 k1 e g1 g2 g4 g5 m old c n1; omega), fun h2 => by rw [r193] at h2; rw [aT k (by omega), r198]; exact g4 h2, fun j j0 j1 => ?_⟩
      rw [n1] at j1
      rw [r192, r193, r194, r198, x123]
      exact old j j0 j1
end SI
end T173_si
section T174_si
/-! states: a stim more -/
section SJ
variable {d : Nat} {Mx Mq : mm_} {xs : Int → Int} {s w mk t : Int}
theorem agT_st [Inhabited gh_] (hL : 0 < Mq 6 62 → Mq 199 (Mq 6 62 - 1) = Mq 6 63) {k : Int} (k0 : 0 ≤ k) (k1 : k < Mq 6 62) : agT (stQ_ Mq w mk) k = agT Mq k := by
  unfold agT
  rw [stQ_62, if_neg (by omega), stQ_o (r := 199) (by decide) (by omega)]
  by_cases c : k = Mq 6 62 - 1
  · rw [if_pos c, c]; exact hL (by omega)
  · rw [if_neg c]
theorem agT_sl [Inhabited gh_] : agT (stQ_ Mq w mk) (Mq 6 62) = Mq 6 63 := by
  unfold agT
  rw [stQ_62, if_pos (by omega), stQ_6 (by decide)]
/-- rows that were there stay -/
theorem SRK_st [Inhabited gh_] {M' : mm_} (hL : 0 < Mq 6 62 → Mq 199 (Mq 6 62 - 1) = Mq 6 63) {c k : Int} (k0 : 0 ≤ k) (k1 : k < Mq 6 62) (h : SRK Mx Mq c k) (h123 : M' 123 = Mx 123) (hx : ∀ r i, r ∈ stxL → i < c + nSt Mq k → M' r i = Mx r i) : nSt (stQ_ Mq w mk) k = nSt Mq k ∧ SRK M' (stQ_ Mq w mk) c k := by
  obtain ⟨g1, g2, g3, g4, g5⟩ := h
  have n : k ≠ Mq 6 62 := by omega
  have e2 : stQ_ Mq w mk 192 k = Mq 192 k := stQ_o (by decide) n
  have e3 : stQ_ Mq w mk 193 k = Mq 193 k := stQ_o (by decide) n
  have e4 : stQ_ Mq w mk 194 k = Mq 194 k := stQ_o (by decide) n
  have e8 : stQ_ Mq w mk 198 k = Mq 198 k := stQ_o (by decide) n
  have e20 : stQ_ Mq w mk 200 = Mq 200 := stQ_r (by decide) (by decide)
  have aT := agT_st (w := w) (mk := mk) hL k0 k1
  have n1 : nSt (stQ_ Mq w mk) k = nSt Mq k := by unfold nSt; rw [e3, e8, aT]
  refine ⟨n1, by rw [e2]; exact g1, by rw [e3]; exact g2, by rw [e8, aT, stQ_6 (by decide)]; exact g3, fun h2 => by rw [e3] at h2; rw [aT, e8]; exact g4 h2, fun j j0 j1 => ?_⟩
  rw [n1] at j1
  rw [e2, e3, e4, e8, e20, h123, hx 133 _ (by decide) (by (clear hL k0 k1 h123 hx g1 g2 g3 g4 g5 n e2 e3 e4 e8 e20 aT n1 j0; omega)), hx 134 _ (by decide) (by omega), hx 135 _ (by decide) (by omega), hx 136 _ (by decide) (by omega)]
  exact g5 j j0 j1
/-- an input or save begins -/
theorem SRW_st0 [Inhabited gh_] (h : SRW Mx Mq xs) (hL : 0 < Mq 6 62 → Mq 199 (Mq 6 62 - 1) = Mq 6 63) (h63 : 0 ≤ Mq 6 63) (hw : w = 0 ∨ w = 1) (hT : 0 ≤ Mq 6 61 ∧ Mq 6 61 < 6) : ∃ xs', SRW Mx (stQ_ Mq w mk) xs' := by
  have k := stQ_k (N := Mq) (w := w) (mk := mk)
  have n0 : nSt (stQ_ Mq w mk) (Mq 6 62) = 0 := by unfold nSt; rw [k.2.1, if_pos (by omega), agT_sl, k.2.2.2.2.2.2.1]; omega
  have z := h.1.1
  refine ⟨fun k => if k = Mq 6 62 + 1 then Mx 5 4 else xs k, ⟨by rw [stQ_62]; (clear h hL h63 hw hT k n0; lia), ?_, ?_⟩, fun i k0 k1 => ?_⟩
  · show (if (0 : Int) = Mq 6 62 + 1 then Mx 5 4 else xs 0) = 0
    rw [if_neg (by omega)]; exact h.1.2.1
  · show (if stQ_ Mq w mk 6 62 = Mq 6 62 + 1 then Mx 5 4 else xs (stQ_ Mq w mk 6 62)) = _
    rw [if_pos stQ_62]
  · rw [stQ_62] at k1
    show (if i + 1 = Mq 6 62 + 1 then Mx 5 4 else xs (i + 1)) = (if i = Mq 6 62 + 1 then Mx 5 4 else xs i) + nSt (stQ_ Mq w mk) i ∧ SRK Mx (stQ_ Mq w mk) (if i = Mq 6 62 + 1 then Mx 5 4 else xs i) i
    rw [if_neg (show ¬ i = Mq 6 62 + 1 by (clear h hL h63 hw hT k n0 z k0; omega))]
    by_cases c : i = Mq 6 62
    · rw [if_pos (by (clear h hL h63 hw hT k n0 z k0 k1; lia)), c, n0, h.1.2.2]
      refine ⟨by omega, by rw [k.1]; exact hT, by rw [k.2.1]; omega, by rw [k.2.2.2.2.2.2.1, agT_sl, stQ_6 (by decide)]; (clear h hL hw hT n0 z k0 k1 c; lia), fun _ => by rw [k.2.2.2.2.2.2.1, agT_sl], fun j j0 j1 => by rw [n0] at j1; (clear h hL h63 hw hT k n0 z k0 k1 c; omega)⟩
    · obtain ⟨e, hk⟩ := h.2 i k0 (by (clear h hL h63 hw hT k n0 z k0; omega))
      have q := SRK_st (M' := Mx) (w := w) (mk := mk) hL k0 (by (clear h hL h63 hw hT k n0 z k0 e hk; omega)) hk rfl (fun _ _ _ _ => rfl)
      exact ⟨by rw [if_neg (by (clear h hL h63 hw hT k n0 z k0 k1 e hk q; lia)), q.1]; exact e, q.2⟩
/-- a when or none -/
theorem SRW_st1 [Inhabited gh_] (h : SRW Mx Mq xs) (hL : 0 < Mq 6 62 → Mq 199 (Mq 6 62 - 1) = Mq 6 63) (h63 : 0 ≤ Mq 6 63) (hw : w = 2 ∨ w = 3) (hT : 0 ≤ Mq 6 61 ∧ Mq 6 61 < 6) (h18 : Mq 6 61 = Mx 1 18) (hm : MB (Mx 123 (Mx 1 18)) (Mx 1 34) mk) : ∃ xs', SRW (stX_ Mx w s) (stQ_ Mq w mk) xs' := by
  have k := stQ_k (N := Mq) (w := w) (mk := mk)
  have kx := stX_k (M := Mx) (w := w) (s := s)
  have x123 : stX_ Mx w s 123 = Mx 123 := stX_r (by decide) (by decide)
  have n0 : nSt (stQ_ Mq w mk) (Mq 6 62) = 1 := by unfold nSt; rw [k.2.1, if_neg (by (clear h hL h63 hT h18 hm k x123; omega))]
  have z := h.1.1
  refine ⟨fun k => if k = Mq 6 62 + 1 then Mx 5 4 + 1 else xs k, ⟨by rw [stQ_62]; (clear h hL h63 hw hT h18 hm k kx x123 n0; omega), ?_, ?_⟩, fun i k0 k1 => ?_⟩
  · show (if (0 : Int) = Mq 6 62 + 1 then Mx 5 4 + 1 else xs 0) = 0
    rw [if_neg (by (clear h hL h63 hw hT h18 hm k kx x123 n0; omega))]; exact h.1.2.1
  · show (if stQ_ Mq w mk 6 62 = Mq 6 62 + 1 then Mx 5 4 + 1 else xs (stQ_ Mq w mk 6 62)) = _
    rw [if_pos stQ_62, stX_54]
  · rw [stQ_62] at k1
    show (if i + 1 = Mq 6 62 + 1 then Mx 5 4 + 1 else xs (i + 1)) = (if i = Mq 6 62 + 1 then Mx 5 4 + 1 else xs i) + nSt (stQ_ Mq w mk) i ∧ SRK (stX_ Mx w s) (stQ_ Mq w mk) (if i = Mq 6 62 + 1 then Mx 5 4 + 1 else xs i) i
    rw [if_neg (show ¬ i = Mq 6 62 + 1 by (clear h hL h63 hw hT h18 hm k kx x123 n0 z k0; omega))]
    by_cases c : i = Mq 6 62
    · rw [if_pos (by (clear h hL h63 hw hT h18 hm k kx x123 n0 z k0 k1; lia)), c, n0, h.1.2.2]
      refine ⟨by (clear h hL h63 hw hT h18 hm k kx x123 n0 z k0 k1 c; lia), by rw [k.1]; exact hT, by rw [k.2.1]; (clear h hL h63 hT h18 hm k x123 n0 z k0 k1 c; omega), by rw [k.2.2.2.2.2.2.1, agT_sl, stQ_6 (by decide)]; (clear h hL hw hT h18 hm kx x123 n0 z k0 k1 c; lia), fun _ => by rw [k.2.2.2.2.2.2.1, agT_sl], fun j j0 j1 => ?_⟩
      rw [n0] at j1
      rw [show Mx 5 4 + j = Mx 5 4 by (clear h hL h63 hw hT h18 hm k kx x123 n0 z k0 k1 c; omega), kx.1, kx.2.1, kx.2.2.1, k.1, k.2.1, k.2.2.1, x123, h18]
      exact ⟨rfl, rfl, hm, fun h2 => by (clear h hL h63 hT h18 hm k x123 n0 z k0 k1 c j0 j1; omega)⟩
    · obtain ⟨e, hk⟩ := h.2 i k0 (by (clear h hL h63 hw hT h18 hm k kx x123 n0 z k0; lia))
      have m := SRW_m h k0 (by (clear h hL h63 hw hT h18 hm k kx x123 n0 z k0 e hk; omega))
      have q := SRK_st (M' := stX_ Mx w s) (w := w) (mk := mk) hL k0 (by omega) hk x123 (fun r j hr hj => stX_o hr (by (clear h hL h63 hw hT h18 hm k kx x123 n0 z k0 k1 c e hk hr; omega)))
      exact ⟨by rw [if_neg (by (clear h hL h63 hw hT h18 hm k kx x123 n0 z k0 k1 e hk m q; lia)), q.1]; exact e, q.2⟩
end SJ
end T174_si
section T175_ss
/-! states: between the steps of a state's line -/
section SS
variable {b F F' : Int} {Mx Mq M1 N1 : mm_} {a a' s w mk mask : Int} {xs : Int → Int}
/-- TS does not see the tables of stims -/
theorem TS_c [Inhabited gh_] (h : TS b F Mx Mq a) (hx : XSb Mx M1) (hq : QSb Mq N1) (h1 : ∀ i : Int, i ≠ 22 → i ≠ 34 → M1 1 i = Mx 1 i) (h5 : M1 5 3 = Mx 5 3) (h59 : M1 59 = Mx 59) (h62 : M1 62 = Mx 62) (h123 : M1 123 = Mx 123) (h128 : M1 128 = Mx 128)
    (h6 : ∀ i : Int, i ≠ 62 → i ≠ 63 → N1 6 i = Mq 6 i) (h174 : N1 174 = Mq 174) (h175 : N1 175 = Mq 175) (h179 : N1 179 = Mq 179) (h180 : N1 180 = Mq 180) (h187 : N1 187 = Mq 187) : TS b F M1 N1 a := by
  obtain ⟨⟨t1, t2, t3, t4, t5, t6⟩, g, l, s, ⟨u1, u2⟩, w, r, ⟨k1, k2⟩, n1, n2⟩ := h
  have e71 : M1 71 = Mx 71 := XSb_r hx (by decide)
  have i6 : ∀ i : Int, i ≠ 62 → i ≠ 63 → N1 6 i = Mq 6 i := h6
  have hE : ER b F M1 N1 a 0 := ER_X2 (ER_Q t3 (i6 _ (by decide) (by decide)) (i6 _ (by decide) (by decide)) (i6 _ (by decide) (by decide)) (i6 _ (by decide) (by decide)) (i6 _ (by decide) (by decide))) (XSb_r hx (by decide)) (fun i x y => h1 i (by (clear hx hq h1 h5 h59 h62 h123 h128 h6 h174 h175 h179 h180 h187 t1 t2 t3 t4 t5 t6 g l s u1 u2 w r k1 k2 n1 n2 e71 i6; lia)) (by omega)) h5 (h1 19 (by omega) (by omega))
  exact ⟨⟨Tks_b hx hq t1, VT_b hx hq t2, hE, by rw [i6 75 (by decide) (by decide)]; exact t4, by rw [i6 104 (by decide) (by decide)]; exact t5, by rw [h5]; exact t6⟩, by rw [e71]; exact GT_b hx hq g, LBT_b l hx hq h62 h128 h175 h180 h187, stt9_b hx hq h59 h123 h174 h179 s, ⟨by rw [h1 29 (by decide) (by decide)]; exact u1, by rw [i6 76 (by decide) (by decide)]; exact u2⟩, by rw [h1 7 (by decide) (by decide)]; exact w, by rw [i6 90 (by decide) (by decide)]; exact r, ⟨by rw [h1 21 (by decide) (by decide)]; exact k1, by rw [h1 23 (by decide) (by decide)]; exact k2⟩, by rw [h1 19 (by decide) (by decide)]; exact n1, by rw [h5]; exact n2⟩
theorem TS_st [Inhabited gh_] (h : TS b F Mx Mq a) : TS b F (stX_ Mx w s) Mq a := TS_c h stX_XSb QSb_rf (fun i _ _ => by rw [stX_r (by decide) (by decide)]) (stX_5 (by decide)) (stX_r (by decide) (by decide)) (stX_r (by decide) (by decide)) (stX_r (by decide) (by decide)) (stX_r (by decide) (by decide)) (fun _ _ _ => rfl) rfl rfl rfl rfl rfl
theorem TS_sq [Inhabited gh_] (h : TS b F Mx Mq a) : TS b F Mx (stQ_ Mq w mk) a := TS_c h XSb_rf stQ_QSb (fun _ _ _ => rfl) rfl rfl rfl rfl rfl (fun i h _ => stQ_6 h) (stQ_r (by decide) (by decide)) (stQ_r (by decide) (by decide)) (stQ_r (by decide) (by decide)) (stQ_r (by decide) (by decide)) (stQ_r (by decide) (by decide))
theorem TS_in [Inhabited gh_] (h : TS b F Mx Mq a) : TS b F Mx (inM_ Mq s) a := TS_c h XSb_rf inM_QSb (fun _ _ _ => rfl) rfl rfl rfl rfl rfl (fun i _ h => inM_6 h) (inM_r (by decide) (by decide) (by decide)) (inM_r (by decide) (by decide) (by decide)) (inM_r (by decide) (by decide) (by decide)) (inM_r (by decide) (by decide) (by decide)) (inM_r (by decide) (by decide) (by decide))
theorem TS_E [Inhabited gh_] (h : TS b F Mx Mq a) : ER b F Mx Mq a 0 := h.1.2.2.1
/-- a token on -/
theorem GT_p [Inhabited gh_] {p p' : Int} (h : GT b F Mx Mq p) (hp : p ≤ p') : GT b F Mx Mq p' := GT_F h (Int.le_refl _) hp
theorem TS_go [Inhabited gh_] (h : TS b F Mx Mq a) (hE : ER b F (nX_ Mx) (nx_ Mq) (a + 1) 0) : TS b F (nX_ Mx) (nx_ Mq) (a + 1) := by
  have hT := h.1.1
  obtain ⟨⟨t1, t2, t3, t4, t5, t6⟩, g, l, s, ⟨u1, u2⟩, w, r, ⟨k1, k2⟩, n1, n2⟩ := h
  have xf : XF Mx (nX_ Mx) := nX_XF
  have xa := XF_XA xf
  have qa : QA Mq (nx_ Mq) := QF_QA nx_QF
  have y1 : ∀ i : Int, i ≠ 3 → nX_ Mx 1 i = Mx 1 i := fun i h => nX_1 h
  have y6 : ∀ i : Int, i ≠ 12 → nx_ Mq 6 i = Mq 6 i := fun i h => nx_6 h
  have e5 : nX_ Mx 5 = Mx 5 := nX_ne (by decide)
  have e71 : nX_ Mx 71 = Mx 71 := nX_ne (by decide)
  have ga1 : gd_ Mx (a + 1) := gd_c (nX_ne (by decide) : nX_ Mx 70 = Mx 70).symm hE.1
  have hp : Mx 71 a ≤ Mx 71 (a + 1) := by have := (t1 (a + 1) ga1).2.2.2.2.1 a t3.1 (by (clear hE hT t1 t2 t3 t4 t5 t6 g l s u1 u2 w r k1 k2 n1 n2 xf xa qa y1 y6 e5 e71 ga1; lia)); (clear hE hT t1 t2 t3 t4 t5 t6 g l s u1 u2 w r k1 k2 n1 n2 xf xa qa y1 y6 e5 e71 ga1; omega)
  exact ⟨⟨Tks_a xa qa t1, VT_a xa qa t2, hE, by rw [y6 75 (by decide)]; omega, by rw [y6 104 (by decide)]; omega, by rw [e5]; omega⟩, by rw [e71]; exact GT_p (GT_a xa qa g) hp, LBT_c l xa qa (nX_ne (by decide)) (nX_ne (by decide)) (nx_ne (by decide)) (nx_ne (by decide)) (nx_ne (by decide)) (by omega), stt9_a xa qa s, ⟨by rw [y1 29 (by decide)]; omega, by rw [y6 76 (by decide)]; (clear hE hT t1 t2 t3 t4 t5 t6 g l s u1 w r k1 k2 n1 n2 xf xa qa y1 y6 e5 e71 ga1 hp; lia)⟩, by rw [y1 7 (by decide)]; omega, by rw [y6 90 (by decide)]; omega, ⟨by rw [y1 21 (by decide)]; exact k1, by rw [y1 23 (by decide)]; exact k2⟩, by rw [y1 19 (by decide)]; exact n1, by rw [e5]; omega⟩
end SS
end T175_ss
section T176_ss
/-! states: the relation within a state's lines -/
def SS [Inhabited gh_] (b F : Int) (Mx Mq : mm_) (a mask e : Int) : Prop := TS b F Mx Mq a ∧ ((0 ≤ Mx 5 4 ∧ 2 * Mx 5 4 ≤ a + e) ∧ (0 ≤ Mq 6 62 ∧ 2 * Mq 6 62 ≤ a + e) ∧ (0 ≤ Mq 6 63 ∧ 2 * Mq 6 63 ≤ a + e)) ∧ (0 ≤ mask ∧ mask < 4096)
  ∧ (b = 1 → (∃ xs, SRW Mx Mq xs) ∧ (0 < Mq 6 62 → Mq 199 (Mq 6 62 - 1) = Mq 6 63) ∧ MB (Mx 123 (Mx 1 18)) (Mx 1 34) mask)
section SSb
variable {b F F' : Int} {Mx Mq M1 N1 : mm_} {a a' s w mk mask ee : Int} {xs : Int → Int}
theorem agT_c [Inhabited gh_] {k : Int} (h199 : N1 199 = Mq 199) (h62 : N1 6 62 = Mq 6 62) (h63 : N1 6 63 = Mq 6 63) : agT N1 k = agT Mq k := by unfold agT; rw [h199, h62, h63]
theorem SRW_c [Inhabited gh_] (h : SRW Mx Mq xs) (h54 : M1 5 4 = Mx 5 4) (h123 : M1 123 = Mx 123) (h133 : M1 133 = Mx 133) (h134 : M1 134 = Mx 134) (h135 : M1 135 = Mx 135) (h136 : M1 136 = Mx 136)
    (h62 : N1 6 62 = Mq 6 62) (h63 : N1 6 63 = Mq 6 63) (h192 : N1 192 = Mq 192) (h193 : N1 193 = Mq 193) (h194 : N1 194 = Mq 194) (h198 : N1 198 = Mq 198) (h199 : N1 199 = Mq 199) (h200 : N1 200 = Mq 200) : SRW M1 N1 xs := by
  have e : agT N1 = agT Mq := funext fun k => agT_c h199 h62 h63
  unfold SRW SRK nSt at *
  rw [h54, h123, h133, h134, h135, h136, h62, h63, h192, h193, h194, h198, h200, e]
  exact h
/-- SRW stays over acts, parts, transes -/
theorem SRW_a [Inhabited gh_] (h : SRW Mx Mq xs) (hx : XA Mx M1) (hq : QA Mq N1) : SRW M1 N1 xs := SRW_c h (hx.2.2 4 (by decide)) (XA_r hx (by decide)) (XA_r hx (by decide)) (XA_r hx (by decide)) (XA_r hx (by decide)) (XA_r hx (by decide)) (hq.2 62 (by decide)) (hq.2 63 (by decide)) (QA_r hq (by decide)) (QA_r hq (by decide)) (QA_r hq (by decide)) (QA_r hq (by decide)) (QA_r hq (by decide)) (QA_r hq (by decide))
theorem SRW_t [Inhabited gh_] {mx st : Int} (h : SRW Mx Mq xs) : SRW (sX_ Mx mx) (tM_ Mq st mk) xs := by
  have e5 : sX_ Mx mx 5 = Mx 5 := sX_r (by decide) (by decide) (by decide) (by decide) (by decide)
  exact SRW_c h (by rw [e5]) (sX_r (by decide) (by decide) (by decide) (by decide) (by decide)) (sX_r (by decide) (by decide) (by decide) (by decide) (by decide)) (sX_r (by decide) (by decide) (by decide) (by decide) (by decide)) (sX_r (by decide) (by decide) (by decide) (by decide) (by decide)) (sX_r (by decide) (by decide) (by decide) (by decide) (by decide)) (tM_6 (by decide) (by decide) (by decide)) (tM_6 (by decide) (by decide) (by decide)) (tM_r (by decide) (by decide) (by decide) (by decide) (by decide) (by decide)) (tM_r (by decide) (by decide) (by decide) (by decide) (by decide) (by decide)) (tM_r (by decide) (by decide) (by decide) (by decide) (by decide) (by decide)) (tM_r (by decide) (by decide) (by decide) (by decide) (by decide) (by decide)) (tM_r (by decide) (by decide) (by decide) (by decide) (by decide) (by decide)) (tM_r (by decide) (by decide) (by decide) (by decide) (by decide) (by decide))
/-- a trans leaves SS -/
theorem SS_t [Inhabited gh_] {mx st kk : Int} {M' N' : mm_} (h : SS b F Mx Mq a mask ee) (hT : TS b F' (Xn_ M' b kk a') (Qn_ N' b kk (M' 71 a')) a') (hP : PRC b F F' (sX_ Mx mx) (tM_ Mq st mk) M' N' a a' 0 0 (Mq 6 76)) : SS b F' (Xn_ M' b kk a') (Qn_ N' b kk (M' 71 a')) a' mask ee := by
  obtain ⟨h1, ⟨s1, s2, s3⟩, hm, h4⟩ := h
  have ha : a ≤ a' := hP.2.2.2.2.1.1
  have hx := hP.2.2.1.1
  have hq := hP.2.2.1.2
  have xa : XA M' (Xn_ M' b kk a') := XF_XA Xn_XF
  have qa : QA N' (Qn_ N' b kk (M' 71 a')) := QF_QA (QN_QF QN_Qn)
  have xx := XA_tr hx xa
  have qq := QA_tr hq qa
  have e5 : sX_ Mx mx 5 = Mx 5 := sX_r (by decide) (by decide) (by decide) (by decide) (by decide)
  have f54 : Xn_ M' b kk a' 5 4 = Mx 5 4 := by rw [xx.2.2 4 (by decide), e5]
  have f62 : Qn_ N' b kk (M' 71 a') 6 62 = Mq 6 62 := by rw [qq.2 62 (by decide)]; exact tM_6 (by decide) (by decide) (by decide)
  have f63 : Qn_ N' b kk (M' 71 a') 6 63 = Mq 6 63 := by rw [qq.2 63 (by decide)]; exact tM_6 (by decide) (by decide) (by decide)
  refine ⟨hT, ⟨by rw [f54]; (clear hT hP h1 s2 s3 hm h4 hx hq xa qa xx qq e5 f62 f63; lia), by rw [f62]; (clear hT hP h1 s1 s3 hm h4 hx hq xa qa xx qq e5 f54 f63; lia), by rw [f63]; (clear hT hP h1 s1 s2 hm h4 hx hq xa qa xx qq e5 f54 f62; lia)⟩, hm, fun hb => ?_⟩
  obtain ⟨⟨xs, hs⟩, hl, hmb⟩ := h4 hb
  refine ⟨⟨xs, SRW_a (SRW_t hs) xx qq⟩, fun h => ?_, ?_⟩
  · rw [f62, f63, QA_r qq (r := 199) (by decide), tM_r (by decide) (by decide) (by decide) (by decide) (by decide) (by decide)]
    rw [f62] at h
    exact hl h
  · rw [xx.2.1 34 (by decide), xx.2.1 18 (by decide), XA_r xx (r := 123) (by decide), sX_1 (by decide), sX_1 (by decide), sX_r (by decide) (by decide) (by decide) (by decide) (by decide)]
    exact hmb
end SSb
end T176_ss
section T177_no
/-! states: NONE -/
def SQb [Inhabited gh_] (Mx' M M' : mm_) : Prop := sp_ M' ∧ in9_ M' ∧ M' 6 13 = Mx' 1 4 ∧ P14 Mx' M' ∧ QSb M M'
/-- Q: NONE within a state's lines -/
def qFR (dq : Nat) (mask : Int) (N : mm_) (G : mm_ → Prop) (Qt : qt_) : Prop := Tr_ wd0 pg0 (dq + 16) 228 [.inr (.inr 6), .inl 10] N (ri_ fun v5 M5 => if v5 = 0 then False else
  Tr_ wd0 pg0 (dq + 16) 244 [.inr (.inr 6), .inl 59] M5 (rv_ fun M6 => Tr_ wd0 pg0 (dq + 16) 307 [.inr (.inr 6), .inl 3, .inl mask] M6 (ri_ fun v6 M7 => Tr_ wd0 pg0 (dq + 16) 260 [.inr (.inr 6), .inl 0, .inl mask] M7 (rv_ fun M8 => Tr_ wd0 pg0 (dq + 16) 314 [.inr (.inr 6), .inl v6] M8 (rv_ G) Qt) Qt) Qt) Qt) Qt
def X2_ (b : Int) (M : mm_) (w : Int) : mm_ := if b = 0 then M else stX_ M w (-1)
section NO
variable {d dq : Nat} {b F F' : Int} {Mx Mq M N M1 N1 : mm_} {a a' s w mk mask k ee : Int} {Kv G : mm_ → Prop} {Qt : qt_}
theorem q_260z [Inhabited gh_] {st mk : Int} (hs : sp_ N) (h : Kv N) : Tr_ wd0 pg0 (d + 2) 260 [.inr (.inr 6), .inl st, .inl mk] N (rv_ Kv) Qt := t_260 fun V hV hW => b_260_0 (Tr_mono _) hV hW _ _ _ (q_227s hs (by rw [if_neg (by decide)]; exact rv_i h))
theorem q_314s [Inhabited gh_] (hs : sp_ N) (h : Kv N) : Tr_ wd0 pg0 (d + 2) 314 [.inr (.inr 6), .inl k] N (rv_ Kv) Qt := t_314 fun V hV hW => b_314_0 (Tr_mono _) hV hW _ _ (q_227s hs (by rw [if_neg (by decide)]; exact rv_i h))
theorem q_314g [Inhabited gh_] (hg : go_ N) (hk : 0 ≤ k ∧ k < 1300) (e : N 199 k = N 198 k) (h : Kv N) : Tr_ wd0 pg0 (d + 2) 314 [.inr (.inr 6), .inl k] N (rv_ Kv) Qt := t_314 fun V hV hW => b_314_0 (Tr_mono _) hV hW _ _ (q_227g hg (by
  rw [if_pos rfl, if_neg (by (clear hg hk h hV hW; omega)), up_id]
  exact ⟨hk, hk, hk, hk, rv_i h⟩))
/-- Q, stopped within NONE -/
theorem qFR_s [Inhabited gh_] {v5 : Int} (hs : sp_ N) (h : G N) (h5 : v5 ≠ 0) : (if v5 = 0 then False else
  Tr_ wd0 pg0 (dq + 16) 244 [.inr (.inr 6), .inl 59] N (rv_ fun M6 => Tr_ wd0 pg0 (dq + 16) 307 [.inr (.inr 6), .inl 3, .inl mask] M6 (ri_ fun v6 M7 => Tr_ wd0 pg0 (dq + 16) 260 [.inr (.inr 6), .inl 0, .inl mask] M7 (rv_ fun M8 => Tr_ wd0 pg0 (dq + 16) 314 [.inr (.inr 6), .inl v6] M8 (rv_ G) Qt) Qt) Qt) Qt) := by
  rw [if_neg h5]
  exact q_244s hs (q_307s hs (q_260z hs (q_314s hs h)))
theorem X2_r [Inhabited gh_] {r : Nat} (h5 : r ≠ 5) (h : r ∉ stxL) : X2_ b M w r = M r := by
  unfold X2_; split
  · rfl
  · exact stX_r h5 h
theorem X2_5 [Inhabited gh_] {i : Int} (h : i ≠ 4) : X2_ b M w 5 i = M 5 i := by
  unfold X2_; split
  · rfl
  · exact stX_5 h
theorem X2_XSb [Inhabited gh_] : XSb M (X2_ b M w) := by
  unfold X2_; split
  · exact XSb_rf
  · exact stX_XSb
/-- a token on -/
theorem SS_go [Inhabited gh_] (h : SS b F Mx Mq a mask ee) (hE : ER b F (nX_ Mx) (nx_ Mq) (a + 1) 0) : SS b F (nX_ Mx) (nx_ Mq) (a + 1) mask (ee - 1) := by
  obtain ⟨h1, ⟨s1, s2, s3⟩, hm, h4⟩ := h
  have xa : XA Mx (nX_ Mx) := XF_XA nX_XF
  have qa : QA Mq (nx_ Mq) := QF_QA nx_QF
  refine ⟨TS_go h1 hE, ⟨by rw [nX_ne (by decide)]; omega, by rw [nx_6 (by decide)]; omega, by rw [nx_6 (by decide)]; omega⟩, hm, fun hb => ?_⟩
  obtain ⟨⟨xs, hs⟩, hl, hmb⟩ := h4 hb
  refine ⟨⟨xs, SRW_a hs xa qa⟩, fun h => ?_, ?_⟩
  · rw [nx_6 (by decide), nx_6 (by decide), nx_ne (by decide)]; rw [nx_6 (by decide)] at h; exact hl h
  · rw [nX_ne (by decide), nX_1 (by decide), nX_1 (by decide)]; exact hmb
/-- a when or none begins: SS with one token's room -/
theorem SS_st1 [Inhabited gh_] (h : SS b F Mx Mq a mask ee) (hw : w = 2 ∨ w = 3) : SS b F (X2_ b Mx w) (stQ_ Mq w mask) a mask (ee + 2) := by
  obtain ⟨h1, ⟨s1, s2, s3⟩, hm, h4⟩ := h
  have hV := h1.1.2.1
  have h01 := bl01 (TS_E h1)
  have t1 : TS b F (X2_ b Mx w) (stQ_ Mq w mask) a := by
    unfold X2_; split
    · exact TS_sq h1
    · exact TS_sq (TS_st h1)
  refine ⟨t1, ⟨?_, by rw [stQ_62]; omega, by rw [stQ_6 (by decide)]; omega⟩, hm, fun hb => ?_⟩
  · unfold X2_; split
    · omega
    · rw [stX_54]; omega
  · obtain ⟨⟨xs, hs⟩, hl, hmb⟩ := h4 hb
    have e : X2_ b Mx w = stX_ Mx w (-1) := by unfold X2_; rw [if_neg (by omega)]
    rw [e]
    have k := stQ_k (N := Mq) (w := w) (mk := mask)
    refine ⟨SRW_st1 hs hl s3.1 hw (by rw [hV.2.1]; exact ⟨hV.2.2.1, hV.2.2.2.1⟩) hV.2.1 hmb, fun _ => ?_, ?_⟩
    · rw [stQ_62, show Mq 6 62 + 1 - 1 = Mq 6 62 by omega, stQ_6 (by decide)]; exact k.2.2.2.2.2.2.2
    · rw [stX_r (r := 123) (by decide) (by decide), stX_r (r := 1) (by decide) (by decide)]; exact hmb
end NO
end T177_no
section T178_no
/-! states: NONE, joined -/
/-- X's stim gets its trans -/
def X9_ (b : Int) (M : mm_) (k c : Int) : mm_ := if b = 0 then M else up_ M 141 k c
section NP
variable {d dq : Nat} {b F F' : Int} {Mx Mq M N M1 N1 : mm_} {a a' s w mk mask k c ee : Int} {Kv G : mm_ → Prop} {Qt : qt_}
theorem X9_r [Inhabited gh_] {r : Nat} (h : r ≠ 141) : X9_ b M k c r = M r := by
  unfold X9_; split
  · rfl
  · exact up_ne h
theorem SS_9 [Inhabited gh_] (h : SS b F Mx Mq a mask ee) : SS b F (X9_ b Mx k c) Mq a mask ee := by
  obtain ⟨h1, ⟨s1, s2, s3⟩, hm, h4⟩ := h
  have e : ∀ r : Nat, r ≠ 141 → X9_ b Mx k c r = Mx r := fun r h => X9_r h
  have xb : XSb Mx (X9_ b Mx k c) := ⟨fun r hr => e r (fun h => hr (by rw [h]; decide)), fun i _ => by rw [e 1 (by decide)], fun i _ _ => by rw [e 5 (by decide)]⟩
  refine ⟨TS_c h1 xb QSb_rf (fun i _ _ => by rw [e 1 (by decide)]) (by rw [e 5 (by decide)]) (e _ (by decide)) (e _ (by decide)) (e _ (by decide)) (e _ (by decide)) (fun _ _ _ => rfl) rfl rfl rfl rfl rfl, ⟨by rw [e 5 (by decide)]; exact s1, s2, s3⟩, hm, fun hb => ?_⟩
  obtain ⟨⟨xs, hs⟩, hl, hmb⟩ := h4 hb
  refine ⟨⟨xs, SRW_c hs (by rw [e 5 (by decide)]) (e _ (by decide)) (e _ (by decide)) (e _ (by decide)) (e _ (by decide)) (e _ (by decide)) rfl rfl rfl rfl rfl rfl rfl rfl⟩, hl, ?_⟩
  rw [e 1 (by decide), e 123 (by decide)]; exact hmb
/-- NONE in the text -/
def noS (κ : Int → Int) (lm : Int → Int → Bool) (s : sj_) : Option sj_ := (gS s.1).bind fun a1 => (tS κ 259 a1).bind fun a2 => PTj κ lm 12 (a2, s.2)
theorem y_177 [Inhabited gh_] (h : SS b F Mx Mq a mask 0) (hk : Mx 70 a = 10) (hS : b = 1 → noS (Mx 70) (LMT Mx) (a, lc_ b Mx) ≠ none)
    (hK : ∀ F' M' N' a' v kk, SS b F' (X9_ b (Xn_ M' b kk a') (Mx 5 4) (Mx 5 3)) (Qn_ N' b kk (M' 71 a')) a' mask 0 → a + 2 ≤ a' → PRC b F F' (sX_ (X2_ b (nX_ (nX_ Mx)) 3) (Mx 1 34)) (tM_ (stQ_ (nx_ (nx_ Mq)) 3 mask) 0 mask) M' N' (a + 1 + 1) a' 0 0 (Mq 6 76) → SEM b (sX_ (X2_ b (nX_ (nX_ Mx)) 3) (Mx 1 34)) (tM_ (stQ_ (nx_ (nx_ Mq)) 3 mask) 0 mask) M' N' v → (v = 0 ∨ v = 1) → kk = (if v = 0 then 6 else 0) → (b = 1 → Qn_ N' b kk (M' 71 a') 6 13 = 0 → kk = 0 ∧ N' 6 13 = 0)
      → (∀ lm, LOK b lm Mx M' → noS (Mx 70) lm (a, lc_ b Mx) = some (a', lc_ b M')) → (∀ (G : mm_ → Prop) (Qtq : qt_), G (Qn_ N' b kk (M' 71 a')) → qFR dq mask Mq G Qtq) → Kv (X9_ b (Xn_ M' b kk a') (Mx 5 4) (Mx 5 3)))
    (hQ : b = 0 → ∀ Mx', XSb Mx Mx' → (∀ (G : mm_ → Prop) (Qtq : qt_), (∀ M', SQb Mx' Mq M' → G M') → qFR dq mask Mq G Qtq) → Qt 8 Mx') :
    Tr_ wd0 pg0 129 177 [.inr (.inr 1)] Mx (rv_ Kv) Qt := by
  have hE := TS_E h.1
  have hT := h.1.1.1
  have ha := ER_a hE
  have h01 := bl01 hE
  have hf := h.1.2.2.2.2.2.1
  have u := h.1.2.2.2.2.1
  have bnd := h.2.1
  have stopped : ∀ {Mx' M2 : mm_}, SQ Mx' Mq M2 → SQb Mx' Mq M2 := fun hs => ⟨hs.1, hs.2.1, hs.2.2.1, hs.2.2.2.1, QA_QSb hs.2.2.2.2⟩
  refine t_177 fun V hV hW => b_177_0 (Tr_mono _) hV hW _ ?_
  refine y_105 hE (by (clear h hS hK hQ hE hT ha h01 hf u bnd stopped hV hW; lia)) (fun hb e => by have := hS hb; unfold noS at this; rw [e] at this; exact this rfl) (fun h12 hE1 => ?_) (fun hb h12 => ?_)
  rotate_left
  · have hsp := SQ_bf hE hb (k := 2) (by decide) QA_rf
    exact hQ hb _ (XA_XSb (XF_XA fl_XF)) (fun G Qtq hk9 => j_228r hT hE hb (by decide) hk h12 (qFR_s hsp.1 (hk9 _ (stopped hsp)) (by decide)))
  have S1 := SS_go h hE1
  have hT1 := S1.1.1.1
  have x70 : nX_ Mx 70 = Mx 70 := nX_ne (by decide)
  have eN : ∀ lm j, noS (Mx 70) lm (a, j) = (tS (Mx 70) 259 (a + 1)).bind fun a2 => PTj (Mx 70) lm 12 (a2, j) := fun lm j => by unfold noS; rw [gS_e h12, Option.bind_some]
  refine y_121 hE1 (by decide) (fun hb => by rw [x70]; have := hS hb; rw [eN] at this; exact bind_n this) (fun k1 h13 hE2 => ?_) (fun hb k1 h13 => ?_) (fun hb k1 => ?_)
  rotate_left
  · have hsp := SQ_bf hE1 hb (k := 2) (by decide) (QF_QA nx_QF)
    refine hQ hb _ (XA_XSb (XF_XA (XF_tr nX_XF fl_XF))) (fun G Qtq hk9 => j_228t hT hE (by decide) hk h12 ?_)
    rw [if_neg (by decide)]
    exact j_244r hT1 hE1 hb (by decide) k1 h13 (q_307s hsp.1 (q_260z hsp.1 (q_314s hsp.1 (hk9 _ (stopped hsp)))))
  · have hsp := SQ_bf hE1 hb (k := 1) (by decide) (QF_QA nx_QF)
    refine hQ hb _ (XA_XSb (XF_XA (XF_tr nX_XF fl_XF))) (fun G Qtq hk9 => j_228t hT hE (by decide) hk h12 ?_)
    rw [if_neg (by decide)]
    exact j_244w hT1 hE1 hb (by decide) k1 (q_307s hsp.1 (q_260z hsp.1 (q_314s hsp.1 (hk9 _ (stopped hsp)))))
  have S2 := SS_go S1 hE2
  have k1' : Mx 70 (a + 1) = 259 := by rw [← x70]; exact k1
  have eN2 : ∀ lm j, noS (Mx 70) lm (a, j) = PTj (Mx 70) lm 12 (a + 1 + 1, j) := fun lm j => by rw [eN, tS_e k1' h13, Option.bind_some]
  have f54 : nX_ (nX_ Mx) 5 = Mx 5 := by rw [nX_ne (by decide), nX_ne (by decide)]
  have f1 : ∀ i : Int, i ≠ 3 → nX_ (nX_ Mx) 1 i = Mx 1 i := fun i hi => by rw [nX_1 hi, nX_1 hi]
  have g6 : ∀ i : Int, i ≠ 12 → nx_ (nx_ Mq) 6 i = Mq 6 i := fun i hi => by rw [nx_6 hi, nx_6 hi]
  have S3 := SS_st1 (w := 3) S2 (.inr rfl)
  rw [show (0 : Int) - 1 - 1 + 2 = 0 by decide] at S3
  have v12 : nX_ (nX_ Mx) 1 2 = 5 := by rw [f1 2 (by decide)]; exact h.1.1.2.1.1
  have main : V 28 [rr 1, ii (if b = 0 then -1 else Mx 5 4), none] [] (X2_ b (nX_ (nX_ Mx)) 3) := by
    have e1 : X2_ b (nX_ (nX_ Mx)) 3 1 = nX_ (nX_ Mx) 1 := X2_r (by decide) (by decide)
    have e53 : X2_ b (nX_ (nX_ Mx)) 3 5 3 = Mx 5 3 := by rw [X2_5 (by decide), f54]
    have e70 : X2_ b (nX_ (nX_ Mx)) 3 70 = Mx 70 := by rw [X2_r (by decide) (by decide), nX_ne (by decide), nX_ne (by decide)]
    have q76 : stQ_ (nx_ (nx_ Mq)) 3 mask 6 76 = Mq 6 76 := by rw [stQ_6 (by decide), g6 76 (by decide)]
    have lk := LKP_X (b := b) (M1 := X2_ b (nX_ (nX_ Mx)) 3) (Mx := Mx) (by rw [X2_r (by decide) (by decide), nX_ne (by decide), nX_ne (by decide)]) (by rw [X2_r (by decide) (by decide), nX_ne (by decide), nX_ne (by decide)]) (by rw [e1, f1 18 (by decide)]) (by rw [e1, f1 19 (by decide)])
    have e29 : X2_ b (nX_ (nX_ Mx)) 3 1 29 = Mx 1 29 := by rw [e1, f1 29 (by decide)]
    have e7 : X2_ b (nX_ (nX_ Mx)) 3 1 7 = Mx 1 7 := by rw [e1, f1 7 (by decide)]
    have e34 : X2_ b (nX_ (nX_ Mx)) 3 1 34 = Mx 1 34 := by rw [e1, f1 34 (by decide)]
    have xsb : XSb Mx (X2_ b (nX_ (nX_ Mx)) 3) := XSb_tr (XA_XSb (XF_XA (XF_tr nX_XF nX_XF))) X2_XSb
    have qsb : QSb Mq (stQ_ (nx_ (nx_ Mq)) 3 mask) := QSb_tr (QA_QSb (QA_tr (QF_QA nx_QF) (QF_QA nx_QF))) stQ_QSb
    have toQ : ∀ (G : mm_ → Prop) (Qtq : qt_), Tr_ wd0 pg0 (dq + 16) 260 [.inr (.inr 6), .inl 0, .inl mask] (stQ_ (nx_ (nx_ Mq)) 3 mask) (rv_ fun M8 => Tr_ wd0 pg0 (dq + 16) 314 [.inr (.inr 6), .inl (Mq 6 62)] M8 (rv_ G) Qtq) Qtq → qFR dq mask Mq G Qtq := fun G Qtq hq => j_228t hT hE (by decide) hk h12 (by
      rw [if_neg (by decide)]
      refine j_244t hT1 hE1 (by decide) k1 h13 (q_307g (ER_goq hE2) (by rw [g6 62 (by decide)]; (clear h hk hS hK hQ hE hT h01 hf u stopped hV hW hE1 S1 hT1 x70 eN k1 hE2 S2 k1' eN2 f54 f1 g6 S3 v12 e1 e53 e70 q76 lk e29 e7 e34 xsb qsb hq; lia)) ?_)
      rw [g6 62 (by decide)]
      exact hq)
    refine b_177_28 (Tr_mono _) hV hW _ _ ⟨by rw [e1]; exact v12, ?_⟩
    rw [e34, e53]
    refine y_trn (d := 127) (dq := dq) (st := 0) (mk := mask) S3.1 (by rw [e29]; (clear h hk hS hK hQ hE hT ha h01 hf bnd stopped hV hW h12 hE1 S1 hT1 x70 eN k1 h13 hE2 S2 k1' eN2 f54 f1 g6 S3 v12 e1 e53 e70 q76 lk e7 e34 xsb qsb toQ; omega)) (by rw [q76]; (clear h hk hS hK hQ hE hT ha h01 hf bnd stopped hV hW h12 hE1 S1 hT1 x70 eN k1 h13 hE2 S2 k1' eN2 f54 f1 g6 S3 v12 e1 e53 e70 lk e29 e7 e34 xsb qsb toQ; lia)) (by rw [e7]; (clear h hk hS hK hQ hE hT ha h01 u bnd stopped hV hW h12 hE1 S1 hT1 x70 eN k1 h13 hE2 S2 k1' eN2 f54 f1 g6 S3 v12 e1 e53 e70 q76 lk e29 e34 xsb qsb toQ; lia)) (fun hb => ?_) (.inl rfl) (fun hb => ?_) (fun F' M' N' a' v kk hTS P Sm hv hkk E3 hsy hq => ?_) (fun hb Mx' hx hq => ?_)
    · have := (h.2.2.2 hb).2.2.1.1
      constructor
      · intro e; omega
      · intro e; exact absurd rfl e
    · rw [e70, lk.2, lk.1.2.2.2 hb, ← eN2]; exact hS hb
    · have S4 := SS_t S3 hTS P
      have q := P
      rw [q76] at q
      have hE4 := TS_E S4.1
      have qa : QA (tM_ (stQ_ (nx_ (nx_ Mq)) 3 mask) 0 mask) (Qn_ N' b kk (M' 71 a')) := QA_tr P.2.2.1.2 (QF_QA (QN_QF QN_Qn))
      have st := stQ_k (N := nx_ (nx_ Mq)) (w := 3) (mk := mask)
      rw [g6 62 (by decide)] at st
      have e198 : Qn_ N' b kk (M' 71 a') 199 (Mq 6 62) = Qn_ N' b kk (M' 71 a') 198 (Mq 6 62) := by
        rw [QA_r qa (r := 199) (by decide), QA_r qa (r := 198) (by decide), tM_r (by decide) (by decide) (by decide) (by decide) (by decide) (by decide), tM_r (by decide) (by decide) (by decide) (by decide) (by decide) (by decide), st.2.2.2.2.2.2.1, st.2.2.2.2.2.2.2]
      have aa : a + 1 + 1 ≤ a' := P.2.2.2.2.1.1
      have fin := hK F' M' N' a' v kk (SS_9 S4) (by (clear h hk hS hK hQ hE hT ha h01 hf u bnd stopped hV hW h12 hE1 S1 hT1 x70 eN k1 h13 hE2 S2 k1' eN2 f54 f1 g6 S3 v12 e1 e53 e70 q76 lk e29 e7 e34 xsb qsb toQ hTS P Sm hv hkk E3 hsy hq S4 q hE4 qa st e198; omega)) q Sm hv hkk E3 (fun lm hlm => ?_) (fun G Qtq hg => toQ G Qtq (hq _ _ (q_314g (ER_goq hE4) (by (clear h hk hS hK hQ hE hT h01 hf u stopped hV hW hE1 S1 hT1 x70 eN k1 hE2 S2 k1' eN2 f54 f1 g6 S3 v12 e1 e53 e70 q76 lk e29 e7 e34 xsb qsb toQ hTS P Sm hv hkk E3 hsy hq S4 q hE4 qa st e198 aa hg; omega)) e198 hg)))
      · intro _
        have m8 : Xn_ M' b kk a' 1 8 = b := hE4.2.2.2.2.2.2.1
        unfold X9_ at fin
        rcases h01 with hb | hb
        · rw [if_pos (by (clear h hk hS hK hQ hE hT ha hf u bnd stopped hV hW h12 hE1 S1 hT1 x70 eN k1 h13 hE2 S2 k1' eN2 f54 f1 g6 S3 v12 e1 e53 e70 q76 lk e29 e7 e34 xsb qsb toQ hTS P Sm hv hkk E3 hsy hq S4 q hE4 qa st e198 aa fin; lia))]; rw [if_pos hb] at fin; exact rv_i fin
        · rw [if_neg (by (clear h hk hS hK hQ hE hT ha hf u bnd stopped hV hW h12 hE1 S1 hT1 x70 eN k1 h13 hE2 S2 k1' eN2 f54 f1 g6 S3 v12 e1 e53 e70 q76 lk e29 e7 e34 xsb qsb toQ hTS P Sm hv hkk E3 hsy hq S4 q hE4 qa st e198 aa fin; lia)), if_neg (by (clear h hk hS hK hQ hE hT ha hf u bnd stopped hV hW h12 hE1 S1 hT1 x70 eN k1 h13 hE2 S2 k1' eN2 f54 f1 g6 S3 v12 e1 e53 e70 q76 lk e29 e7 e34 xsb qsb toQ hTS P Sm hv hkk E3 hsy hq S4 q hE4 qa st e198 aa fin m8; lia))]; rw [if_neg (by omega)] at fin
          exact ⟨hTS.1.2.1.1, by (clear h hk hS hK hQ hE hT hf u stopped hV hW hE1 S1 hT1 x70 eN k1 hE2 S2 k1' eN2 f54 f1 g6 S3 v12 e1 e53 e70 q76 lk e29 e7 e34 xsb qsb toQ hTS P Sm hv hkk E3 hsy hq S4 q hE4 qa st e198 aa fin m8 hb; omega), rv_i fin⟩
      · have l0 : LKP b Mx (sX_ (X2_ b (nX_ (nX_ Mx)) 3) (Mx 1 34)) := LKP_tr lk.1 (LKP_X (sX_r (by decide) (by decide) (by decide) (by decide) (by decide)) (sX_r (by decide) (by decide) (by decide) (by decide) (by decide)) (sX_1 (by decide)) (sX_1 (by decide))).1
        have l1 := (LOK_s lk.1 (LKP_tr (LKP_X (sX_r (by decide) (by decide) (by decide) (by decide) (by decide)) (sX_r (by decide) (by decide) (by decide) (by decide) (by decide)) (sX_1 (by decide)) (sX_1 (by decide))).1 (LKP_P P)) hlm).2
        have e := hsy lm l1
        rw [e70, lk.2] at e
        rw [eN2]; exact e
    · exact hQ hb Mx' (XSb_tr xsb hx) (fun G Qtq hk9 => toQ G Qtq (hq _ _ fun M' p1 p2 p3 p4 p5 => q_314s p1 (hk9 _ ⟨p1, p2, p3, p4, QSb_tr qsb p5⟩)))
  intro _
  have m8 : nX_ (nX_ Mx) 1 8 = b := by rw [f1 8 (by decide)]; exact hE.2.2.2.2.2.2.1
  unfold X2_ at main
  rcases h01 with hb | hb
  · rw [if_pos (by (clear h hk hS hK hQ hE hT ha hf u bnd stopped hV hW h12 hE1 S1 hT1 x70 eN k1 h13 hE2 S2 k1' eN2 f54 f1 g6 S3 v12 main; lia))]; rw [if_pos hb, if_pos hb] at main; exact main
  · rw [if_neg (by (clear h hk hS hK hQ hE hT ha hf u bnd stopped hV hW h12 hE1 S1 hT1 x70 eN k1 h13 hE2 S2 k1' eN2 f54 f1 g6 S3 v12 main; lia))]; rw [if_neg (by omega), if_neg (by omega)] at main
    refine x_171 v12 (by rw [f54]; omega) ?_
    rw [f54]; exact main
end NP
end T178_no
section T179_aw
/-! states: asked -/
section AW
variable {d dq : Nat} {b F F' : Int} {Mx Mq M1 N1 : mm_} {a a' mask ee : Int} {Kv : mm_ → Prop} {Qt : qt_}
theorem TS_w [Inhabited gh_] (h : TS b F Mx Mq a) (hx : XF Mx M1) (hq : QG Mq N1) (hE : ER b F M1 N1 a' 0) (ha : a ≤ a') (h104 : 0 ≤ N1 6 104 ∧ N1 6 104 ≤ 2 * a') (h53 : M1 5 3 ≤ 9 * a' + 400) (h7 : M1 1 7 + 8 * (1201 - a') ≤ 1000000000 - (gg_ : Int)) : TS b F M1 N1 a' := by
  obtain ⟨⟨t1, t2, t3, t4, t5, t6⟩, g, l, s, ⟨u1, u2⟩, w, r, ⟨k1, k2⟩, n1, n2⟩ := h
  have xa := XF_XA hx
  have qa : QA Mq N1 := QG_QA hq
  have y1 : ∀ i : Int, i ≠ 3 → i ≠ 4 → i ≠ 5 → i ≠ 6 → i ≠ 7 → M1 1 i = Mx 1 i := hx.2.1
  have e71 : M1 71 = Mx 71 := XF_70 hx (by decide) (by decide) (by decide)
  have q6 : ∀ i : Int, i = 75 ∨ i = 76 ∨ i = 90 → N1 6 i = Mq 6 i := fun i hi => hq.2 i (by (clear hx hq hE ha h104 h53 h7 t1 t2 t3 t4 t5 t6 g l s u1 u2 w r k1 k2 n1 n2 xa qa y1 e71; lia)) (by (clear hx hq hE ha h104 h53 h7 t1 t2 t3 t4 t5 t6 g l s u1 u2 w r k1 k2 n1 n2 xa qa y1 e71; lia)) (by (clear hx hq hE ha h104 h53 h7 t1 t2 t3 t4 t5 t6 g l s u1 u2 w r k1 k2 n1 n2 xa qa y1 e71; lia)) (by (clear hx hq hE ha h104 h53 h7 t1 t2 t3 t4 t5 t6 g l s u1 u2 w r k1 k2 n1 n2 xa qa y1 e71; lia)) (by (clear hx hq hE ha h104 h53 h7 t1 t2 t3 t4 t5 t6 g l s u1 u2 w r k1 k2 n1 n2 xa qa y1 e71; lia)) (by (clear hx hq hE ha h104 h53 h7 t1 t2 t3 t4 t5 t6 g l s u1 u2 w r k1 k2 n1 n2 xa qa y1 e71; lia)) (by (clear hx hq hE ha h104 h53 h7 t1 t2 t3 t4 t5 t6 g l s u1 u2 w r k1 k2 n1 n2 xa qa y1 e71; lia)) (by (clear hx hq hE ha h104 h53 h7 t1 t2 t3 t4 t5 t6 g l s u1 u2 w r k1 k2 n1 n2 xa qa y1 e71; lia)) (by (clear hx hq hE ha h104 h53 h7 t1 t2 t3 t4 t5 t6 g l s u1 u2 w r k1 k2 n1 n2 xa qa y1 e71; lia)) (by (clear hx hq hE ha h104 h53 h7 t1 t2 t3 t4 t5 t6 g l s u1 u2 w r k1 k2 n1 n2 xa qa y1 e71; lia)) (by (clear hx hq hE ha h104 h53 h7 t1 t2 t3 t4 t5 t6 g l s u1 u2 w r k1 k2 n1 n2 xa qa y1 e71; lia))
  have ga1 : gd_ Mx a' := gd_c (XF_70 hx (by decide) (by decide) (by decide) : M1 70 = Mx 70).symm hE.1
  have hp : Mx 71 a ≤ Mx 71 a' := by
    by_cases c : a = a'
    · rw [c]; exact Int.le_refl _
    · have := (t1 a' ga1).2.2.2.2.1 a t3.1 (by omega); omega
  have qr : ∀ r : Nat, r ≠ 6 → r < 227 → N1 r = Mq r := fun r h6 h7 => hq.1 r (by simp only [List.mem_cons, List.not_mem_nil, or_false, not_or]; (clear hx hq hE ha h104 h53 t1 t2 t3 t4 t5 t6 g l s u1 u2 w k1 k2 n1 n2 xa qa y1 e71 q6 ga1 hp; lia))
  exact ⟨⟨Tks_a xa qa t1, VT_a xa qa t2, hE, by rw [q6 75 (by omega)]; omega, h104, by (clear hx hq hE ha h104 h7 t1 t2 t3 t4 t5 t6 g l s u1 u2 w r k1 k2 n1 n2 xa qa y1 e71 q6 ga1 hp qr; lia)⟩, by rw [e71]; exact GT_p (GT_a xa qa g) hp, LBT_c l xa qa (XF_70 hx (by decide) (by decide) (by decide)) (XF_70 hx (by decide) (by decide) (by decide)) (qr _ (by decide) (by decide)) (qr _ (by decide) (by decide)) (qr _ (by decide) (by decide)) ha, stt9_a xa qa s, ⟨by rw [y1 29 (by decide) (by decide) (by decide) (by decide) (by decide)]; omega, by rw [q6 76 (by omega)]; (clear hx hq hE h104 h53 h7 t1 t2 t3 t4 t5 t6 g l s u1 w r k1 k2 n1 n2 xa qa y1 e71 q6 ga1 hp qr; lia)⟩, h7, by rw [q6 90 (by omega)]; (clear hx hq hE h104 h53 h7 t1 t2 t3 t4 t5 t6 g l s u1 u2 w k1 k2 n1 n2 xa qa y1 e71 q6 ga1 hp qr; omega), ⟨by rw [y1 21 (by decide) (by decide) (by decide) (by decide) (by decide)]; exact k1, by rw [y1 23 (by decide) (by decide) (by decide) (by decide) (by decide)]; exact k2⟩, by rw [y1 19 (by decide) (by decide) (by decide) (by decide) (by decide)]; exact n1, h53⟩
theorem SS_w [Inhabited gh_] (h : SS b F Mx Mq a mask ee) (hT : TS b F M1 N1 a') (hx : XF Mx M1) (hq : QG Mq N1) (ha : a ≤ a') : SS b F M1 N1 a' mask (ee + a - a') := by
  obtain ⟨h1, ⟨s1, s2, s3⟩, hm, h4⟩ := h
  have xa := XF_XA hx
  have qa : QA Mq N1 := QG_QA hq
  have f54 : M1 5 4 = Mx 5 4 := hx.2.2 4 (by decide)
  have f62 : N1 6 62 = Mq 6 62 := qa.2 62 (by decide)
  have f63 : N1 6 63 = Mq 6 63 := qa.2 63 (by decide)
  refine ⟨hT, ⟨by (clear hT hx hq ha h1 s2 s3 hm h4 xa qa f62 f63; lia), by omega, by (clear hT hx hq ha h1 s1 s2 hm h4 xa qa f54 f62; lia)⟩, hm, fun hb => ?_⟩
  obtain ⟨⟨xs, hs⟩, hl, hmb⟩ := h4 hb
  refine ⟨⟨xs, SRW_a hs xa qa⟩, fun h => ?_, ?_⟩
  · rw [f62, f63, QA_r qa (r := 199) (by decide)]; rw [f62] at h; exact hl h
  · rw [xa.2.1 34 (by decide), xa.2.1 18 (by decide), XA_r xa (r := 123) (by decide)]; exact hmb
/-- an e that must be true or false: X's asked | Q's wanted(2) -/
theorem y_174 [Inhabited gh_] (h : SS b F Mx Mq a mask ee) (hS : b = 1 → ES (Mx 70) 0 0 a ≠ none)
    (hK : ∀ M1 N1 a', SS b F (pX_ M1 25) N1 a' mask (ee + a - a') → WR b F Mx Mq M1 N1 a a' 0 1 → ES (Mx 70) 0 0 a = some a' → (∀ (Kq : Int → mm_ → Prop) (Qtq : qt_), Kq (Mq 6 104) N1 → Tr_ wd0 pg0 (dq + 12) 270 [.inr (.inr 6), .inl 2] Mq (ri_ Kq) Qtq) → Kv (pX_ M1 25))
    (hQ : b = 0 → ∀ Mx', XF Mx Mx' → (∀ (Kq : Int → mm_ → Prop) (Qtq : qt_), (∀ M', sp_ M' → in9_ M' → M' 6 13 = Mx' 1 4 → P14 Mx' M' → QF Mq M' → Kq (-1) M') → Tr_ wd0 pg0 (dq + 12) 270 [.inr (.inr 6), .inl 2] Mq (ri_ Kq) Qtq) → Qt 8 Mx') :
    Tr_ wd0 pg0 123 174 [.inr (.inr 1)] Mx (rv_ Kv) Qt := by
  have hTA := h.1.1
  obtain ⟨t1, t2, t3, t4, t5, t6⟩ := hTA
  have w := h.1.2.2.2.2.2.1
  have n2 := h.1.2.2.2.2.2.2.2.2.2
  have ha := ER_a t3
  refine t_174 fun V hV hW => b_174_0 (Tr_mono _) hV hW _ ?_
  refine x_w (n := 12) (dq := dq) (wq := 1) (by decide) rfl (by decide) (by decide) (fun _ => rfl) t1 t2 t3 (by omega) hS (fun M1 N1 a' hW' hes hq => ?_) hQ
  obtain ⟨w1, w2, w3, w4, w5, w6, w7, w8, w9, w10⟩ := id hW'
  have hE4 : ER b F M1 N1 a' 0 := w4
  have st4 := ER_st hE4
  have hE5 := ER_pX (v := 25) hE4 (by (clear h hS hK hQ t1 t2 t3 t4 t5 t6 w ha hV hW hW' hes hq w1 w2 w3 w4 w5 w6 w8 w9 w10 hE4 st4; lia))
  have p53 : pX_ M1 25 5 3 ≤ M1 5 3 + 1 := by
    unfold pX_; split
    · (clear h hS hK hQ t1 t2 t3 t4 t5 t6 w n2 ha hV hW hW' hes hq w1 w2 w3 w4 w5 w6 w7 w8 w9 w10 hE4 st4 hE5; lia)
    · rw [up_at]; (clear h hS hK hQ t1 t2 t3 t4 t5 t6 w n2 ha hV hW hW' hes hq w1 w2 w3 w4 w5 w6 w7 w8 w9 w10 hE4 st4 hE5; lia)
  have hT1 : TS b F (pX_ M1 25) N1 a' := TS_w h.1 (XF_tr w2 pX_XF) w3 hE5 (by (clear h hS hK hQ t1 t2 t3 t4 t5 t6 w n2 ha hV hW hW' hes hq w2 w3 w4 w5 w6 w7 w8 w9 w10 hE4 st4 hE5 p53; omega)) (by (clear h hS hK hQ t1 t2 t3 t4 t6 w n2 hV hW hW' hes hq w2 w3 w4 w6 w7 w8 w9 w10 hE4 st4 hE5 p53; lia)) (by (clear h hS hK hQ t1 t2 t3 t4 t5 t6 w ha hV hW hW' hes hq w2 w3 w4 w5 w6 w8 w9 w10 hE4 st4 hE5; lia)) (by rw [pX_1]; omega)
  refine x_138 (by rw [w2.2.1 2 (by decide) (by decide) (by decide) (by decide) (by decide)]; exact t2.1) st4.1 st4.2 (rv_i (hK M1 N1 a' (SS_w h hT1 (XF_tr w2 pX_XF) w3 (by omega)) hW' hes hq))
end AW
end T179_aw
section T180_ct
/-! a number with a bound: X's count | Q's bounded -/
def cnS (κ ν : Int → Int) (most a : Int) : Option Int := if κ a = 101 ∧ ν a ≤ most then gS a else none
section CT
variable {d dq : Nat} {b F : Int} {Mx Mq : mm_} {a o most : Int} {K : Int → mm_ → Prop} {Qt : qt_}
theorem y_124 [Inhabited gh_] (hT : Tks Mx Mq) (hE : ER b F Mx Mq a o) (hS : b = 1 → cnS (Mx 70) (Mx 73) most a ≠ none)
    (hK : Mx 70 a = 101 → Mx 73 a ≤ most → 0 ≤ Mx 73 a → a < 1200 → ER b F (nX_ Mx) (nx_ Mq) (a + 1) o → cnS (Mx 70) (Mx 73) most a = some (a + 1) → (∀ (Kq : Int → mm_ → Prop) (Qtq : qt_), Kq (Mx 73 a) (nx_ Mq) → Tr_ wd0 pg0 (dq + 4) 248 [.inr (.inr 6), .inl most] Mq (ri_ Kq) Qtq) → K (Mx 73 a) (nX_ Mx))
    (hQ : b = 0 → ∀ Mx', XF Mx Mx' → (∀ (Kq : Int → mm_ → Prop) (Qtq : qt_), (∀ v M', SQ Mx' Mq M' → Kq v M') → Tr_ wd0 pg0 (dq + 4) 248 [.inr (.inr 6), .inl most] Mq (ri_ Kq) Qtq) → Qt 8 Mx') :
    Tr_ wd0 pg0 (d + 5) 124 [.inr (.inr 1), .inl most] Mx (ri_ K) Qt := by
  obtain ⟨g1, g2, g3, g4, g5, g6⟩ := ER_k hT hE
  have ha := ER_a hE
  have h01 := bl01 hE
  have e12 : Mq 6 12 = a := hE.2.2.1
  have e3 : Mx 1 3 = a := hE.2.1
  have iX : iX_ Mx := by unfold iX_; rw [e3]; exact ha
  have num := (hT a hE.1).2.2.1
  refine t_124 fun V hV hW => b_124_0 (Tr_mono _) hV hW _ _ ?_
  refine y_103 hE (fun k1 => ?_) (fun k1 => ?_)
  · rw [if_neg (by decide), e3]
    obtain ⟨n1, n2, n3⟩ := num k1
    have q2 : Mq 149 (Mq 6 12) = 2 := by unfold KQ at g1; (clear hT hE hS hK hQ g2 g3 g4 iX hV hW n1 n2 n3; lia)
    have ev : w32 (Mq 151 (Mq 6 12)) = Mx 73 a := by rw [e12, n1, w32_id (by (clear hT hE hS hK hQ g1 g2 g3 g4 g5 g6 ha h01 e12 e3 iX num hV hW k1 n1 q2; lia)) (by omega)]
    refine ⟨by (clear hT hE hS hK hQ g1 g2 g3 g4 g5 g6 h01 e12 iX num hV hW k1 n1 n2 n3 q2 ev; omega), ?_⟩
    by_cases c : Mx 73 a ≤ most
    · rw [if_pos c]
      refine x_110 (by (clear hT hE hS hK hQ g1 g2 g3 g4 g5 g6 h01 e12 iX num hV hW k1 n1 n2 n3 q2 ev c; lia)) (by (clear hT hE hS hK hQ g1 g2 g3 g4 g5 g6 h01 e12 iX num hV hW k1 n1 n2 n3 q2 ev c; omega)) (fun _ => ?_) (fun h => absurd rfl h)
      refine x_125 iX (fun _ h12 => ?_) (fun h => absurd (by rw [e3]; exact k1) h) (fun _ h12 => ?_)
      · rw [e3] at h12 ⊢
        have hE1 := (ER_go hE h12 (by (clear hT hE hS hK hQ g1 g2 g3 g4 g5 g6 ha h01 e12 e3 iX num hV hW n1 n2 n3 q2 ev c h12; lia))).1
        refine ri_i (hK k1 c n2 h12 hE1 (by unfold cnS; rw [if_pos ⟨k1, c⟩, gS_e h12]) (fun Kq Qtq hk => ?_))
        refine t_248 fun V2 hV2 hW2 => b_248_0 (Tr_mono _) hV2 hW2 _ _ ⟨g3, q_249g (ER_goq hE) g4 (g5 h12) q2 (q_227g (ER_goq hE1) ?_)⟩
        rw [if_pos rfl, ev, if_pos c]
        exact ri_i hk
      · rw [e3] at h12 ⊢
        have hb : b = 0 := by
          rcases h01 with hb | hb
          · exact hb
          · exfalso
            have := hS hb
            unfold cnS at this
            rw [if_pos ⟨k1, c⟩] at this
            have := gS_n this
            (clear hT hE hS hK hQ g1 g2 g3 g4 g5 g6 ha e12 iX num hV hW k1 n1 n2 n3 q2 ev c hb; omega)
        have hsp := SQ_bf hE hb (k := 2) (by decide) QA_rf
        refine hQ hb _ fl_XF (fun Kq Qtq hk => t_248 fun V2 hV2 hW2 => b_248_0 (Tr_mono _) hV2 hW2 _ _ ⟨g3, q_249r (ER_ok hE hb) (g6 h12) q2 ?_⟩)
        rw [g2]
        refine q_227s hsp.1 ?_
        rw [if_neg (by decide)]
        exact ri_i (hk _ _ hsp)
    · rw [if_neg c]
      have hb : b = 0 := by
        rcases h01 with hb | hb
        · exact hb
        · exact absurd (by unfold cnS; rw [if_neg (fun h => c h.2)]) (hS hb)
      refine x_110 (by (clear hT hE hS hK hQ g1 g2 g3 g4 g5 g6 h01 e12 iX num hV hW k1 n1 n2 n3 q2 ev c hb; lia)) (by omega) (fun h => absurd h (by decide)) (fun _ => ?_)
      refine hQ hb _ fl_XF (fun Kq Qtq hk => t_248 fun V2 hV2 hW2 => b_248_0 (Tr_mono _) hV2 hW2 _ _ ⟨g3, ?_⟩)
      by_cases h12 : a < 1200
      · have hE1 := (ER_go hE h12 (by (clear hT hE hS hK hQ g1 g2 g3 g4 g5 g6 ha h01 e12 e3 iX num hV hW n1 n2 n3 q2 ev c hb hk hV2 hW2 h12; lia))).1
        refine q_249g (ER_goq hE) g4 (g5 h12) q2 (q_227g (ER_goq hE1) ?_)
        rw [if_pos rfl, ev, if_neg c, g2]
        refine q_231o (ER_ok hE1 hb).1 (ri_i (hk _ _ ?_))
        have hsp := SQ_bf hE1 hb (k := 2) (by decide) (QF_QA (nx_QF (M := Mq)))
        have x71 : nX_ Mx 71 = Mx 71 := nX_ne (by decide)
        refine ⟨?_, ?_, ?_, ?_, ?_⟩
        · exact ⟨by unfold bf_; rw [up_off (by decide), up_at]; decide, by unfold bf_; rw [up_off (by decide), up_off (by decide)]; exact hE1.2.2.2.2.2.2.2.1.trans hb⟩
        · unfold in9_ bf_; rw [up_off (by decide), up_off (by decide)]; exact ⟨by rw [hE1.2.2.1]; (clear hT hE hS hK hQ g1 g2 g3 g4 g5 g6 h01 e12 iX num hV hW k1 n1 n2 n3 q2 ev c hb hk hV2 hW2 hE1 hsp x71; lia), by rw [hE1.2.2.1]; (clear hT hE hS hK hQ g1 g2 g3 g4 g5 g6 h01 e12 iX num hV hW k1 n1 n2 n3 q2 ev c hb hk hV2 hW2 hE1 hsp x71; lia)⟩
        · unfold bf_; rw [up_off (by decide), up_at, fl_4]
        · refine ⟨?_, fl_b7 (by assumption)⟩; unfold bf_; rw [up_at, fl_5]
        · exact QA_tr (QF_QA nx_QF) (QA_tr (QA_u6 (by decide)) (QA_u6 (by decide)))
      · have h12' : a = 1200 := by omega
        have hsp := SQ_bf hE hb (k := 2) (by decide) QA_rf
        refine q_249r (ER_ok hE hb) (g6 h12') q2 ?_
        rw [g2]
        refine q_227s hsp.1 ?_
        rw [if_neg (by decide)]
        exact ri_i (hk _ _ hsp)
  · rw [if_pos rfl]
    have hb : b = 0 := by
      rcases h01 with hb | hb
      · exact hb
      · exact absurd (by unfold cnS; rw [if_neg (fun h => k1 h.1)]) (hS hb)
    have hsp := SQ_bf hE hb (k := 1) (by decide) QA_rf
    refine x_109 iX ?_
    rw [if_neg (by decide), e3]
    refine hQ hb _ fl_XF (fun Kq Qtq hk => t_248 fun V2 hV2 hW2 => b_248_0 (Tr_mono _) hV2 hW2 _ _ ⟨g3, q_249w (ER_ok hE hb) g3 (by unfold KQ at g1; (clear hT hE hS hK hQ g2 g3 g4 iX hV hW hsp hk hV2 hW2; lia)) ?_⟩)
    rw [g2]
    refine q_227s hsp.1 ?_
    rw [if_neg (by decide)]
    exact ri_i (hk _ _ hsp)
end CT
end T180_ct
section T181_wh
/-! states: WHEN -/
/-- Q: WHEN within a state's lines -/
def qWH (dq : Nat) (mask : Int) (N : mm_) (G : mm_ → Prop) (Qt : qt_) : Prop := Tr_ wd0 pg0 (dq + 17) 228 [.inr (.inr 6), .inl 9] N (ri_ fun v4 M4 => if v4 = 0 then False else Tr_ wd0 pg0 (dq + 17) 313 [.inr (.inr 6), .inl mask] M4 (rv_ G) Qt) Qt
section WH
variable {d dq : Nat} {b F F' : Int} {Mx Mq M N M1 N1 : mm_} {a a' mask k c ee i v : Int} {x1 x2 x3 : Int} {Kv G : mm_ → Prop} {Qt : qt_} {V : vv_}
theorem SS_u [Inhabited gh_] {r : Nat} (hr : r = 195 ∨ r = 196 ∨ r = 197) (h : SS b F Mx Mq a mask ee) : SS b F Mx (up_ Mq r i v) a mask ee := by
  obtain ⟨h1, ⟨s1, s2, s3⟩, hm, h4⟩ := h
  have e : ∀ r' : Nat, r' ≠ r → up_ Mq r i v r' = Mq r' := fun r' h => up_ne h
  have e6 : up_ Mq r i v 6 = Mq 6 := e 6 (by (clear h1 s1 s2 s3 hm e; lia))
  have qb : QSb Mq (up_ Mq r i v) := ⟨fun r' hr' => e r' (fun h => hr' (by rw [h]; rcases hr with q | q | q <;> rw [q] <;> decide)), fun j _ => by rw [e6]⟩
  refine ⟨TS_c h1 XSb_rf qb (fun _ _ _ => rfl) rfl rfl rfl rfl rfl (fun j _ _ => by rw [e6]) (e _ (by (clear h1 s1 s2 s3 hm e e6 qb; lia))) (e _ (by (clear h1 s1 s2 s3 hm e e6 qb; lia))) (e _ (by omega)) (e _ (by omega)) (e _ (by (clear h1 s1 s2 s3 hm e e6 qb; omega))), ⟨s1, by rw [e6]; exact s2, by rw [e6]; exact s3⟩, hm, fun hb => ?_⟩
  obtain ⟨⟨xs, hs⟩, hl, hmb⟩ := h4 hb
  refine ⟨⟨xs, SRW_c hs rfl rfl rfl rfl rfl rfl (by rw [e6]) (by rw [e6]) (e _ (by (clear h1 s1 s2 s3 hm e e6 qb hs hmb; lia))) (e _ (by (clear h1 s1 s2 s3 hm e e6 qb hs hmb; lia))) (e _ (by (clear h1 s1 s2 s3 hm e e6 qb hs hmb; lia))) (e _ (by omega)) (e _ (by (clear h1 s1 s2 s3 hm e e6 qb hs hmb; lia))) (e _ (by (clear h1 s1 s2 s3 hm e e6 qb hs hmb; lia)))⟩, fun h => ?_, hmb⟩
  rw [e6, e 199 (by (clear h1 s1 s2 s3 hm e e6 qb hs hmb h; lia))]; rw [e6] at h; exact hl h
/-- Q's 313, once stopped -/
theorem q_313s59 [Inhabited gh_] (hV : Cl_ wd0 (Tr_ wd0 pg0 (d + 3)) V (rv_ Kv) Qt m_313) (hW : Wk_ V) (hs : sp_ N) (h : Kv N) : V 59 [rr 6, ii x1, ii x2, ii x3, none] [] N := by
  refine b_313_59 (Tr_mono _) hV hW _ _ _ _ (q_244s hs (q_227s hs ?_))
  rw [if_neg (by decide)]
  exact q_260z hs (rv_i h)
theorem q_313s27 [Inhabited gh_] (hV : Cl_ wd0 (Tr_ wd0 pg0 (d + 3)) V (rv_ Kv) Qt m_313) (hW : Wk_ V) (hs : sp_ N) (h : Kv N) : V 27 [rr 6, ii x1, ii x2, ii x3, none] [] N := by
  refine b_313_27 (Tr_mono _) hV hW _ _ _ _ (q_228s hs ?_)
  rw [if_pos rfl]
  exact q_313s59 hV hW hs h
theorem q_313s [Inhabited gh_] (hs : sp_ N) (h : Kv N) : Tr_ wd0 pg0 (d + 4) 313 [.inr (.inr 6), .inl x1] N (rv_ Kv) Qt := by
  refine t_313 fun V hV hW => b_313_0 (Tr_mono _) hV hW _ _ (q_307s hs (q_270s hs (q_227s hs ?_)))
  rw [if_neg (by decide)]
  exact q_313s27 hV hW hs h
end WH
end T181_wh
section T182_wt
/-! states: WHEN, from its semicolon on -/
def Xw_ (b : Int) (M : mm_) (k x2 x3 c : Int) : mm_ := if b = 0 then M else up_ (up_ (up_ M 139 k x2) 140 k x3) 141 k c
section WT
variable {d dq : Nat} {b F F' : Int} {Mx Mq M N M1 N1 : mm_} {a a' mask k c ee i v : Int} {x1 x2 x3 e : Int} {Kv G : mm_ → Prop} {Qt : qt_} {V : vv_}
theorem Xw_r [Inhabited gh_] {r : Nat} (h1 : r ≠ 139) (h2 : r ≠ 140) (h3 : r ≠ 141) : Xw_ b M k x2 x3 c r = M r := by
  unfold Xw_; split
  · rfl
  · rw [up_ne h3, up_ne h2, up_ne h1]
theorem SS_Xw [Inhabited gh_] (h : SS b F Mx Mq a mask ee) : SS b F (Xw_ b Mx k x2 x3 c) Mq a mask ee := by
  obtain ⟨h1, ⟨s1, s2, s3⟩, hm, h4⟩ := h
  have e : ∀ r : Nat, r ≠ 139 → r ≠ 140 → r ≠ 141 → Xw_ b Mx k x2 x3 c r = Mx r := fun r h h' h'' => Xw_r h h' h''
  have xb : XSb Mx (Xw_ b Mx k x2 x3 c) := ⟨fun r hr => e r (fun h => hr (by rw [h]; decide)) (fun h => hr (by rw [h]; decide)) (fun h => hr (by rw [h]; decide)), fun i _ => by rw [e 1 (by decide) (by decide) (by decide)], fun i _ _ => by rw [e 5 (by decide) (by decide) (by decide)]⟩
  refine ⟨TS_c h1 xb QSb_rf (fun i _ _ => by rw [e 1 (by decide) (by decide) (by decide)]) (by rw [e 5 (by decide) (by decide) (by decide)]) (e _ (by decide) (by decide) (by decide)) (e _ (by decide) (by decide) (by decide)) (e _ (by decide) (by decide) (by decide)) (e _ (by decide) (by decide) (by decide)) (fun _ _ _ => rfl) rfl rfl rfl rfl rfl, ⟨by rw [e 5 (by decide) (by decide) (by decide)]; exact s1, s2, s3⟩, hm, fun hb => ?_⟩
  obtain ⟨⟨xs, hs⟩, hl, hmb⟩ := h4 hb
  refine ⟨⟨xs, SRW_c hs (by rw [e 5 (by decide) (by decide) (by decide)]) (e _ (by decide) (by decide) (by decide)) (e _ (by decide) (by decide) (by decide)) (e _ (by decide) (by decide) (by decide)) (e _ (by decide) (by decide) (by decide)) (e _ (by decide) (by decide) (by decide)) rfl rfl rfl rfl rfl rfl rfl rfl⟩, hl, ?_⟩
  rw [e 1 (by decide) (by decide) (by decide), e 123 (by decide) (by decide) (by decide)]; exact hmb
theorem y_176t [Inhabited gh_] (h : SS b F Mx Mq a mask ee) (h29 : 2 * Mx 1 29 + 3 ≤ a) (h76 : 2 * Mq 6 76 + 3 ≤ a) (hx1 : b = 1 → 0 ≤ x1 ∧ x1 < 600) (hk : 0 ≤ k ∧ k < 1300) (hS : b = 1 → ((tS (Mx 70) 259 a).bind fun a2 => PTj (Mx 70) (LMT Mx) 12 (a2, lc_ b Mx)) ≠ none)
    (hV : Cl_ wd0 (Tr_ wd0 pg0 128) V (rv_ Kv) Qt m_176) (hW : Wk_ V)
    (hK : ∀ F' M' N' a' v kk, SS b F' (Xw_ b (Xn_ M' b kk a') x1 x2 x3 (Mx 5 3)) (Qn_ N' b kk (M' 71 a')) a' mask (ee - 1) → a + 1 ≤ a' → PRC b F F' (sX_ (nX_ Mx) (Mx 1 34)) (tM_ (up_ (nx_ Mq) 197 k (Mq 6 75)) 0 mask) M' N' (a + 1) a' 0 0 (Mq 6 76) → SEM b (sX_ (nX_ Mx) (Mx 1 34)) (tM_ (up_ (nx_ Mq) 197 k (Mq 6 75)) 0 mask) M' N' v → (v = 0 ∨ v = 1) → kk = (if v = 0 then 6 else 0) → (b = 1 → Qn_ N' b kk (M' 71 a') 6 13 = 0 → kk = 0 ∧ N' 6 13 = 0)
      → (∀ lm, LOK b lm Mx M' → ((tS (Mx 70) 259 a).bind fun a2 => PTj (Mx 70) lm 12 (a2, lc_ b Mx)) = some (a', lc_ b M'))
      → (∀ (V' : vv_) (G : mm_ → Prop) (Qtq : qt_), Cl_ wd0 (Tr_ wd0 pg0 (dq + 16)) V' (rv_ G) Qtq m_313 → Wk_ V' → G (Qn_ N' b kk (M' 71 a')) → V' 59 [rr 6, ii mask, ii k, ii e, none] [] Mq) → Kv (Xw_ b (Xn_ M' b kk a') x1 x2 x3 (Mx 5 3)))
    (hQ : b = 0 → ∀ Mx', XSb Mx Mx' → (∀ (V' : vv_) (G : mm_ → Prop) (Qtq : qt_), Cl_ wd0 (Tr_ wd0 pg0 (dq + 16)) V' (rv_ G) Qtq m_313 → Wk_ V' → (∀ M', SQb Mx' Mq M' → G M') → V' 59 [rr 6, ii mask, ii k, ii e, none] [] Mq) → Qt 8 Mx') :
    V 56 [rr 1, ii x1, ii x2, ii x3, none] [] Mx := by
  have hE := TS_E h.1
  have hT := h.1.1.1
  have ha := ER_a hE
  have h01 := bl01 hE
  have hf := h.1.2.2.2.2.2.1
  refine b_176_56 (Tr_mono _) hV hW _ _ _ _ ?_
  refine y_121 hE (by decide) (fun hb => bind_n (hS hb)) (fun k1 h12 hE1 => ?_) (fun hb k1 h12 => ?_) (fun hb k1 => ?_)
  rotate_left
  · have hsp := SQ_bf hE hb (k := 2) (by decide) QA_rf
    refine hQ hb _ (XA_XSb (XF_XA fl_XF)) (fun V' G Qtq hV' hW' hk9 => b_313_59 (Tr_mono _) hV' hW' _ _ _ _ (j_244r hT hE hb (by decide) k1 h12 (q_227s hsp.1 ?_)))
    rw [if_neg (by decide)]
    exact q_260z hsp.1 (rv_i (hk9 _ ⟨hsp.1, hsp.2.1, hsp.2.2.1, hsp.2.2.2.1, QA_QSb hsp.2.2.2.2⟩))
  · have hsp := SQ_bf hE hb (k := 1) (by decide) QA_rf
    refine hQ hb _ (XA_XSb (XF_XA fl_XF)) (fun V' G Qtq hV' hW' hk9 => b_313_59 (Tr_mono _) hV' hW' _ _ _ _ (j_244w hT hE hb (by decide) k1 (q_227s hsp.1 ?_)))
    rw [if_neg (by decide)]
    exact q_260z hsp.1 (rv_i (hk9 _ ⟨hsp.1, hsp.2.1, hsp.2.2.1, hsp.2.2.2.1, QA_QSb hsp.2.2.2.2⟩))
  have S1 := SS_u (r := 197) (i := k) (v := Mq 6 75) (.inr (.inr rfl)) (SS_go h hE1)
  have f1 : ∀ i : Int, i ≠ 3 → nX_ Mx 1 i = Mx 1 i := fun i hi => nX_1 hi
  have e53 : nX_ Mx 5 3 = Mx 5 3 := by rw [nX_ne (by decide)]
  have x70 : nX_ Mx 70 = Mx 70 := nX_ne (by decide)
  have q6 : up_ (nx_ Mq) 197 k (Mq 6 75) 6 = nx_ Mq 6 := up_ne (by decide)
  have q76 : up_ (nx_ Mq) 197 k (Mq 6 75) 6 76 = Mq 6 76 := by rw [q6, nx_6 (by decide)]
  have eN : ∀ lm j, ((tS (Mx 70) 259 a).bind fun a2 => PTj (Mx 70) lm 12 (a2, j)) = PTj (Mx 70) lm 12 (a + 1, j) := fun lm j => by rw [tS_e (show Mx 70 a = 259 from k1) h12, Option.bind_some]
  have lk := LKP_F (b := b) (nX_XF (M := Mx))
  have qsb : QSb Mq (up_ (nx_ Mq) 197 k (Mq 6 75)) := QSb_tr (QA_QSb (QF_QA nx_QF)) ⟨fun r hr => up_ne (fun h => hr (by rw [h]; decide)), fun j _ => by rw [up_ne (by decide)]⟩
  have toQ : ∀ (V' : vv_) (G : mm_ → Prop) (Qtq : qt_), Cl_ wd0 (Tr_ wd0 pg0 (dq + 16)) V' (rv_ G) Qtq m_313 → Wk_ V' → Tr_ wd0 pg0 (dq + 16) 260 [.inr (.inr 6), .inl 0, .inl mask] (up_ (nx_ Mq) 197 k (Mq 6 75)) (rv_ G) Qtq → V' 59 [rr 6, ii mask, ii k, ii e, none] [] Mq := fun V' G Qtq hV' hW' hq => b_313_59 (Tr_mono _) hV' hW' _ _ _ _ (j_244t hT hE (by decide) k1 h12 (q_227g (ER_goq hE1) (by
    rw [if_pos rfl, nx_6 (by decide)]
    exact ⟨hk, Tr_rv hq⟩)))
  refine ⟨by rw [f1 2 (by decide)]; exact h.1.1.2.1.1, ?_⟩
  rw [f1 34 (by decide)]
  refine y_trn (d := 127) (dq := dq) (st := 0) (mk := mask) S1.1 (by rw [f1 29 (by decide)]; omega) (by rw [q76]; (clear h h29 hx1 hk hS hV hW hK hQ hE hT ha h01 hf k1 h12 hE1 S1 f1 e53 x70 q6 eN lk qsb toQ; lia)) (by rw [f1 7 (by decide)]; omega) (fun hb => ?_) (.inl rfl) (fun hb => ?_) (fun F' M' N' a' v kk hTS P Sm hv hkk E3 hsy hq => ?_) (fun hb Mx' hx hq => ?_)
  · have := (h.2.2.2 hb).2.2.1.1
    constructor
    · intro e; omega
    · intro e; exact absurd rfl e
  · rw [x70, lk.2, lk.1.2.2.2 hb, ← eN]; exact hS hb
  · have S4 := SS_t S1 hTS P
    have q := P
    rw [q76] at q
    have hE4 := TS_E S4.1
    have aa : a + 1 ≤ a' := P.2.2.2.2.1.1
    have fin := hK F' M' N' a' v kk (SS_Xw S4) aa q Sm hv hkk E3 (fun lm hlm => ?_) (fun V' G Qtq hV' hW' hg => toQ V' G Qtq hV' hW' (hq _ _ hg))
    · intro _
      have m8 : Xn_ M' b kk a' 1 8 = b := hE4.2.2.2.2.2.2.1
      unfold Xw_ at fin
      rcases h01 with hb | hb
      · rw [if_pos (by (clear h h29 h76 hx1 hk hS hV hW hK hQ hE hT ha hf k1 h12 hE1 S1 f1 e53 x70 q6 q76 eN lk qsb toQ hTS P Sm hv hkk E3 hsy hq S4 q hE4 aa fin; lia))]; rw [if_pos hb] at fin; exact rv_i fin
      · rw [if_neg (by (clear h h29 h76 hx1 hk hS hV hW hK hQ hE hT ha hf k1 h12 hE1 S1 f1 e53 x70 q6 q76 eN lk qsb toQ hTS P Sm hv hkk E3 hsy hq S4 q hE4 aa fin; lia)), e53]; rw [if_neg (by omega)] at fin
        have v2 := hTS.1.2.1.1
        exact ⟨v2, hx1 hb, v2, hx1 hb, v2, hx1 hb, rv_i fin⟩
    · have l1 := (LOK_s lk.1 (LKP_tr (LKP_X (sX_r (by decide) (by decide) (by decide) (by decide) (by decide)) (sX_r (by decide) (by decide) (by decide) (by decide) (by decide)) (sX_1 (by decide)) (sX_1 (by decide))).1 (LKP_P P)) hlm).2
      have e := hsy lm l1
      rw [x70, lk.2] at e
      rw [eN]; exact e
  · exact hQ hb Mx' (XSb_tr (XA_XSb (XF_XA nX_XF)) hx) (fun V' G Qtq hV' hW' hk9 => toQ V' G Qtq hV' hW' (hq _ _ fun M' p1 p2 p3 p4 p5 => hk9 _ ⟨p1, p2, p3, p4, QSb_tr qsb p5⟩))
end WT
end T182_wt
section T183_wn
/-! states: WHEN, joined -/
/-- PRIO in the text -/
def prS (κ ν : Int → Int) (a : Int) : Option Int := if κ a = 27 then (gS a).bind fun a1 => cnS κ ν 9 a1 else some a
/-- WHEN in the text -/
def whS (κ ν : Int → Int) (lm : Int → Int → Bool) (s : sj_) : Option sj_ := (gS s.1).bind fun a1 => (ES κ 0 0 a1).bind fun a2 => (prS κ ν a2).bind fun a3 => (tS κ 259 a3).bind fun a4 => PTj κ lm 12 (a4, s.2)
section WN
variable {d dq : Nat} {b F F' : Int} {Mx Mq M N M1 N1 : mm_} {a a' mask k c ee ee' i v : Int} {x1 x2 x3 e : Int} {Kv G : mm_ → Prop} {Qt : qt_} {V : vv_}
theorem SS_le [Inhabited gh_] (h : SS b F Mx Mq a mask ee) (he : ee ≤ ee') : SS b F Mx Mq a mask ee' := by
  obtain ⟨h1, ⟨s1, s2, s3⟩, hm, h4⟩ := h
  exact ⟨h1, ⟨by omega, by omega, by (clear h1 s1 s2 hm h4; omega)⟩, hm, h4⟩
/-- PRIO: X from V 22's word test on | Q from V 27 -/
theorem y_176p [Inhabited gh_] (h : SS b F Mx Mq a mask ee) (hk : 0 ≤ k ∧ k < 1300) (hS : b = 1 → prS (Mx 70) (Mx 73) a ≠ none)
    (hK : ∀ M1 N1 a1 pr, SS b F M1 N1 a1 mask (ee + a - a1) → a ≤ a1 → XF Mx M1 → M1 5 = Mx 5 → M1 142 = Mx 142 → M1 1 7 = Mx 1 7 → ((a1 = a ∧ pr = 0 ∧ N1 = Mq) ∨ (a1 = a + 2 ∧ N1 = up_ (nx_ (nx_ Mq)) 195 k pr)) → prS (Mx 70) (Mx 73) a = some a1 → (∀ (V' : vv_) (G : mm_ → Prop) (Qtq : qt_), Cl_ wd0 (Tr_ wd0 pg0 (dq + 16)) V' (rv_ G) Qtq m_313 → Wk_ V' → V' 59 [rr 6, ii mask, ii k, ii e, none] [] N1 → V' 27 [rr 6, ii mask, ii k, ii e, none] [] Mq) → V 56 [rr 1, ii x1, ii x2, ii pr, none] [] M1)
    (hQ : b = 0 → ∀ Mx', XSb Mx Mx' → (∀ (V' : vv_) (G : mm_ → Prop) (Qtq : qt_), Cl_ wd0 (Tr_ wd0 pg0 (dq + 16)) V' (rv_ G) Qtq m_313 → Wk_ V' → (∀ M', SQb Mx' Mq M' → G M') → V' 27 [rr 6, ii mask, ii k, ii e, none] [] Mq) → Qt 8 Mx') :
    Tr_ wd0 pg0 128 103 [.inr (.inr 1), .inl 27] Mx (ri_ fun v1 M2 => if v1 = 0 then V 56 [rr 1, ii x1, ii x2, ii 0, none] [] M2 else Tr_ wd0 pg0 128 105 [.inr (.inr 1)] M2 (rv_ fun M3 => Tr_ wd0 pg0 128 124 [.inr (.inr 1), .inl 9] M3 (ri_ fun v2 M4 => V 56 [rr 1, ii x1, ii x2, ii v2, none] [] M4) Qt) Qt) Qt := by
  have hE := TS_E h.1
  have hT := h.1.1.1
  have ha := ER_a hE
  refine y_103 hE (fun k1 => ?_) (fun k1 => ?_)
  · rw [if_neg (by decide)]
    have eP : prS (Mx 70) (Mx 73) a = (gS a).bind fun a1 => cnS (Mx 70) (Mx 73) 9 a1 := by unfold prS; rw [if_pos k1]
    rw [eP] at hS hK
    refine y_105 hE (by (clear h hk hS hK hQ hE hT ha eP; lia)) (fun hb => bind_n (hS hb)) (fun h12 hE1 => ?_) (fun hb h12 => ?_)
    rotate_left
    · have hsp := SQ_bf hE hb (k := 2) (by decide) QA_rf
      refine hQ hb _ (XA_XSb (XF_XA fl_XF)) (fun V' G Qtq hV' hW' hk9 => b_313_27 (Tr_mono _) hV' hW' _ _ _ _ (j_228r hT hE hb (by decide) k1 h12 ?_))
      rw [if_neg (by decide)]
      refine t_248 fun V2 hV2 hW2 => b_248_0 (Tr_mono _) hV2 hW2 _ _ ⟨hsp.2.1, q_249s hsp.1 (q_227s hsp.1 ?_)⟩
      rw [if_neg (by decide)]
      refine ri_i (q_227s hsp.1 ?_)
      rw [if_neg (by decide)]
      exact q_313s59 (d := dq + 13) hV' hW' hsp.1 (hk9 _ ⟨hsp.1, hsp.2.1, hsp.2.2.1, hsp.2.2.2.1, QA_QSb hsp.2.2.2.2⟩)
    rw [gS_e h12, Option.bind_some] at hS hK
    have S1 := SS_go h hE1
    have hT1 := S1.1.1.1
    have x70 : nX_ Mx 70 = Mx 70 := nX_ne (by decide)
    have x73 : nX_ Mx 73 = Mx 73 := nX_ne (by decide)
    refine y_124 (d := 123) (dq := dq + 12) hT1 hE1 (fun hb => by rw [x70, x73]; exact hS hb) (fun n1 n2 n3 h13 hE2 hcn hq => ?_) (fun hb Mx' hx hq => ?_)
    · rw [x70, x73] at hcn
      rw [x73] at hq ⊢
      have S2 := SS_u (r := 195) (i := k) (v := Mx 73 (a + 1)) (.inl rfl) (SS_go S1 hE2)
      refine hK _ (up_ (nx_ (nx_ Mq)) 195 k (Mx 73 (a + 1))) (a + 1 + 1) _ (SS_le S2 (by (clear h hk hS hK hQ hE hT ha k1 eP h12 hE1 S1 hT1 x70 x73 n1 n2 n3 h13 hE2 hcn hq S2; lia))) (by omega) (XF_tr nX_XF nX_XF) (by rw [nX_ne (by decide), nX_ne (by decide)]) (by rw [nX_ne (by decide), nX_ne (by decide)]) (by rw [nX_1 (by decide), nX_1 (by decide)]) (.inr ⟨by (clear h hk hS hK hQ hE hT ha k1 eP h12 hE1 S1 hT1 x70 x73 n1 n2 n3 h13 hE2 hcn hq S2; lia), rfl⟩) hcn (fun V' G Qtq hV' hW' hg => b_313_27 (Tr_mono _) hV' hW' _ _ _ _ (j_228t hT hE (by decide) k1 h12 ?_))
      rw [if_neg (by decide)]
      refine hq _ _ (q_227g (ER_goq hE2) ?_)
      rw [if_pos rfl]
      exact ⟨hk, hg⟩
    · refine hQ hb Mx' (XA_XSb (XF_XA (XF_tr nX_XF hx))) (fun V' G Qtq hV' hW' hk9 => b_313_27 (Tr_mono _) hV' hW' _ _ _ _ (j_228t hT hE (by decide) k1 h12 ?_))
      rw [if_neg (by decide)]
      refine hq _ _ (fun v M' hsq => q_227s hsq.1 ?_)
      rw [if_neg (by decide)]
      exact q_313s59 (d := dq + 13) hV' hW' hsq.1 (hk9 _ ⟨hsq.1, hsq.2.1, hsq.2.2.1, hsq.2.2.2.1, QA_QSb (QA_tr (QF_QA nx_QF) hsq.2.2.2.2)⟩)
  · rw [if_pos rfl]
    have eP : prS (Mx 70) (Mx 73) a = some a := by unfold prS; rw [if_neg k1]
    refine hK Mx Mq a 0 (SS_le h (by (clear h hk hS hK hQ hE hT ha k1 eP; lia))) (Int.le_refl _) XF_rf rfl rfl rfl (.inl ⟨rfl, rfl, rfl⟩) eP (fun V' G Qtq hV' hW' hg => b_313_27 (Tr_mono _) hV' hW' _ _ _ _ (j_228f hT hE (by decide) k1 ?_))
    rw [if_pos rfl]
    exact hg
end WN
end T183_wn
section T184_wn
/-! states: WHEN whole -/
/-- what a WHEN leaves: the e, the PRIO, the trans -/
def WHF [Inhabited gh_] (b F F' : Int) (Mx Mq : mm_) (a mask : Int) (M9 N9 : mm_) (a9 : Int) : Prop := ∃ (Ma Na Mb Nb : mm_) (aa ab pr : Int) (M' N' : mm_) (v kk : Int),
  WR b F (X2_ b (nX_ Mx) 2) (stQ_ (nx_ Mq) 2 mask) Ma Na (a + 1) aa 0 1 ∧ (aa ≤ ab ∧ XF (pX_ Ma 25) Mb ∧ Mb 5 = pX_ Ma 25 5 ∧ Mb 142 = pX_ Ma 25 142 ∧ ((ab = aa ∧ pr = 0 ∧ Nb = up_ Na 196 (Mq 6 62) (Mq 6 104)) ∨ (ab = aa + 2 ∧ Nb = up_ (nx_ (nx_ (up_ Na 196 (Mq 6 62) (Mq 6 104)))) 195 (Mq 6 62) pr)))
  ∧ PRC b F F' (sX_ (nX_ Mb) (Mb 1 34)) (tM_ (up_ (nx_ Nb) 197 (Mq 6 62) (Nb 6 75)) 0 mask) M' N' (ab + 1) a9 0 0 (Nb 6 76) ∧ SEM b (sX_ (nX_ Mb) (Mb 1 34)) (tM_ (up_ (nx_ Nb) 197 (Mq 6 62) (Nb 6 75)) 0 mask) M' N' v ∧ (v = 0 ∨ v = 1) ∧ kk = (if v = 0 then 6 else 0) ∧ (b = 1 → Qn_ N' b kk (M' 71 a9) 6 13 = 0 → kk = 0 ∧ N' 6 13 = 0)
  ∧ M9 = Xw_ b (Xn_ M' b kk a9) (if b = 0 then -1 else Mx 5 4) (Mx 5 3) pr (Mb 5 3) ∧ N9 = Qn_ N' b kk (M' 71 a9)
section WX
variable {d dq : Nat} {b F F' : Int} {Mx Mq : mm_} {a mask : Int} {Kv G : mm_ → Prop} {Qt : qt_}
theorem y_176 [Inhabited gh_] (h : SS b F Mx Mq a mask 0) (hk : Mx 70 a = 9) (hS : b = 1 → whS (Mx 70) (Mx 73) (LMT Mx) (a, lc_ b Mx) ≠ none)
    (hK : ∀ F' M9 N9 a9, SS b F' M9 N9 a9 mask 0 → a + 3 ≤ a9 → WHF b F F' Mx Mq a mask M9 N9 a9 → (∀ lm, LOK b lm Mx M9 → whS (Mx 70) (Mx 73) lm (a, lc_ b Mx) = some (a9, lc_ b M9)) → (∀ (G : mm_ → Prop) (Qtq : qt_), G N9 → qWH dq mask Mq G Qtq) → Kv M9)
    (hQ : b = 0 → ∀ Mx', XSb Mx Mx' → (∀ (G : mm_ → Prop) (Qtq : qt_), (∀ M', SQb Mx' Mq M' → G M') → qWH dq mask Mq G Qtq) → Qt 8 Mx') :
    Tr_ wd0 pg0 129 176 [.inr (.inr 1)] Mx (rv_ Kv) Qt := by
  have hE := TS_E h.1
  have hT := h.1.1.1
  have ha := ER_a hE
  have h01 := bl01 hE
  have u := h.1.2.2.2.2.1
  have bnd := h.2.1
  refine t_176 fun V hV hW => b_176_0 (Tr_mono _) hV hW _ ?_
  refine y_105 hE (by omega) (fun hb => bind_n (hS hb)) (fun h12 hE1 => ?_) (fun hb h12 => ?_)
  rotate_left
  · have hsp := SQ_bf hE hb (k := 2) (by decide) QA_rf
    refine hQ hb _ (XA_XSb (XF_XA fl_XF)) (fun G Qtq hk9 => j_228r hT hE hb (by decide) hk h12 ?_)
    rw [if_neg (by decide)]
    exact q_313s hsp.1 (hk9 _ ⟨hsp.1, hsp.2.1, hsp.2.2.1, hsp.2.2.2.1, QA_QSb hsp.2.2.2.2⟩)
  have S2 := SS_st1 (w := 2) (SS_go h hE1) (.inl rfl)
  have hE2 := TS_E S2.1
  have x1f : ∀ i : Int, i ≠ 3 → X2_ b (nX_ Mx) 2 1 i = Mx 1 i := fun i hi => by rw [X2_r (by decide) (by decide), nX_1 hi]
  have x70 : X2_ b (nX_ Mx) 2 70 = Mx 70 := by rw [X2_r (by decide) (by decide), nX_ne (by decide)]
  have x73 : X2_ b (nX_ Mx) 2 73 = Mx 73 := by rw [X2_r (by decide) (by decide), nX_ne (by decide)]
  have x53 : X2_ b (nX_ Mx) 2 5 3 = Mx 5 3 := by rw [X2_5 (by decide), nX_ne (by decide)]
  have q104 : stQ_ (nx_ Mq) 2 mask 6 104 = Mq 6 104 := by rw [stQ_6 (by decide), nx_6 (by decide)]
  have eW : ∀ lm j, whS (Mx 70) (Mx 73) lm (a, j) = (ES (Mx 70) 0 0 (a + 1)).bind fun a2 => (prS (Mx 70) (Mx 73) a2).bind fun a3 => (tS (Mx 70) 259 a3).bind fun a4 => PTj (Mx 70) lm 12 (a4, j) := fun lm j => by unfold whS; rw [gS_e h12, Option.bind_some]
  have xsb : XSb Mx (X2_ b (nX_ Mx) 2) := XSb_tr (XA_XSb (XF_XA nX_XF)) X2_XSb
  have qsb : QSb Mq (stQ_ (nx_ Mq) 2 mask) := QSb_tr (QA_QSb (QF_QA nx_QF)) stQ_QSb
  have bk : 0 ≤ Mq 6 62 ∧ Mq 6 62 < 1300 := by (clear h hk hS hK hQ hE hT h01 u hV hW hE1 S2 hE2 x1f x70 x73 x53 q104 eW xsb qsb; omega)
  have toQ : ∀ (G : mm_ → Prop) (Qtq : qt_), (∀ V' : vv_, Cl_ wd0 (Tr_ wd0 pg0 (dq + 16)) V' (rv_ G) Qtq m_313 → Wk_ V' → Tr_ wd0 pg0 (dq + 16) 270 [.inr (.inr 6), .inl 2] (stQ_ (nx_ Mq) 2 mask) (ri_ fun v2 M2 => Tr_ wd0 pg0 (dq + 16) 227 [.inr (.inr 6)] M2 (ri_ fun v3 M3 => if v3 = 0 then (0 ≤ Mq 6 62 ∧ Mq 6 62 < 1300) ∧ V' 27 [rr 6, ii mask, ii (Mq 6 62), ii v2, none] [] (up_ M3 196 (Mq 6 62) v2) else V' 27 [rr 6, ii mask, ii (Mq 6 62), ii v2, none] [] M3) Qtq) Qtq) → qWH dq mask Mq G Qtq := fun G Qtq hq => j_228t hT hE (by decide) hk h12 (by
    rw [if_neg (by decide)]
    refine t_313 fun V' hV' hW' => b_313_0 (Tr_mono _) hV' hW' _ _ (q_307g (ER_goq hE1) (by rw [nx_6 (by decide)]; exact bk) ?_)
    rw [nx_6 (by decide)]
    exact hq V' hV' hW')
  have lk2 := LKP_X (b := b) (M1 := X2_ b (nX_ Mx) 2) (Mx := Mx) (by rw [X2_r (by decide) (by decide), nX_ne (by decide)]) (by rw [X2_r (by decide) (by decide), nX_ne (by decide)]) (x1f 18 (by decide)) (x1f 19 (by decide))
  have main : V 22 [rr 1, ii (if b = 0 then -1 else Mx 5 4), none, none, none] [] (X2_ b (nX_ Mx) 2) := by
    refine b_176_22 (Tr_mono _) hV hW _ _ ⟨by rw [x1f 2 (by decide)]; exact h.1.1.2.1.1, ?_⟩
    rw [x53]
    refine Tr_le (d := 123) (by omega) (y_174 (dq := dq + 4) S2 (fun hb => by rw [x70]; have := hS hb; rw [eW] at this; exact bind_n this) (fun Ma Na aa S3 hWR hes hq => ?_) (fun hb Mx' hx hq => ?_))
    · rw [x70] at hes
      rw [q104] at hq
      have wr := hWR
      obtain ⟨w1, w2, w3, w4, w5, w6, w7, w8, w9, w10⟩ := wr
      have S4 := SS_u (r := 196) (i := Mq 6 62) (v := Mq 6 104) (.inr (.inl rfl)) S3
      have p70 : pX_ Ma 25 70 = Mx 70 := by rw [pX_r (by decide) (by decide), XF_70 w2 (by decide) (by decide) (by decide), x70]
      have p73 : pX_ Ma 25 73 = Mx 73 := by rw [pX_r (by decide) (by decide), XF_70 w2 (by decide) (by decide) (by decide), x73]
      have xfa : XF (X2_ b (nX_ Mx) 2) (pX_ Ma 25) := XF_tr w2 pX_XF
      have eW2 : ∀ lm j, whS (Mx 70) (Mx 73) lm (a, j) = (prS (Mx 70) (Mx 73) aa).bind fun a3 => (tS (Mx 70) 259 a3).bind fun a4 => PTj (Mx 70) lm 12 (a4, j) := fun lm j => by rw [eW, hes, Option.bind_some]
      have toQ2 : ∀ (G : mm_ → Prop) (Qtq : qt_), (∀ V' : vv_, Cl_ wd0 (Tr_ wd0 pg0 (dq + 16)) V' (rv_ G) Qtq m_313 → Wk_ V' → V' 27 [rr 6, ii mask, ii (Mq 6 62), ii (Mq 6 104), none] [] (up_ Na 196 (Mq 6 62) (Mq 6 104))) → qWH dq mask Mq G Qtq := fun G Qtq hq9 => toQ G Qtq fun V' hV' hW' => hq _ _ (q_227g (ER_goq w4) (by
        rw [if_pos rfl]
        exact ⟨bk, hq9 V' hV' hW'⟩))
      have qsa : QSb Mq (up_ Na 196 (Mq 6 62) (Mq 6 104)) := QSb_tr qsb (QSb_tr (QA_QSb (QG_QA w3)) ⟨fun r hr => up_ne (fun h => hr (by rw [h]; decide)), fun j _ => by rw [up_ne (by decide)]⟩)
      have xsa : XSb Mx (pX_ Ma 25) := XSb_tr xsb (XA_XSb (XF_XA xfa))
      refine y_176p (dq := dq) (e := Mq 6 104) S4 bk (fun hb => by rw [p70, p73]; have := hS hb; rw [eW2] at this; exact bind_n this) (fun Mb Nb ab pr S5 hab xfb b5 b142 b7 hcase hpr hq5 => ?_) (fun hb Mx' hx hq5 => ?_)
      · rw [p70, p73] at hpr
        have b70 : Mb 70 = Mx 70 := by rw [XF_70 xfb (by decide) (by decide) (by decide), p70]
        have lk5 : LKP b Mx Mb ∧ lc_ b Mb = lc_ b Mx := by
          have q := LKP_F (b := b) (XF_tr xfa xfb)
          exact ⟨LKP_tr lk2.1 q.1, q.2.trans lk2.2⟩
        have b1 : ∀ i : Int, i = 29 ∨ i = 34 → Mb 1 i = Mx 1 i := fun i hi => by rw [(XF_tr xfa xfb).2.1 i (by (clear h hk hS hK hQ hE hT ha h01 u bnd hV hW h12 hE1 S2 hE2 x1f x70 x73 x53 q104 eW xsb qsb bk toQ lk2 S3 hWR hes hq w1 w2 w3 w4 w5 w6 w7 w8 w9 w10 S4 p70 p73 xfa eW2 toQ2 qsa xsa S5 hab xfb b5 b142 b7 hcase hpr hq5 b70 lk5; lia)) (by (clear h hk hS hK hQ hE hT ha h01 u bnd hV hW h12 hE1 S2 hE2 x1f x70 x73 x53 q104 eW xsb qsb bk toQ lk2 S3 hWR hes hq w1 w2 w3 w4 w5 w6 w7 w8 w9 w10 S4 p70 p73 xfa eW2 toQ2 qsa xsa S5 hab xfb b5 b142 b7 hcase hpr hq5 b70 lk5; lia)) (by (clear h hk hS hK hQ hE hT ha h01 u bnd hV hW h12 hE1 S2 hE2 x1f x70 x73 x53 q104 eW xsb qsb bk toQ lk2 S3 hWR hes hq w1 w2 w3 w4 w5 w6 w7 w8 w9 w10 S4 p70 p73 xfa eW2 toQ2 qsa xsa S5 hab xfb b5 b142 b7 hcase hpr hq5 b70 lk5; lia)) (by (clear h hk hS hK hQ hE hT ha h01 u bnd hV hW h12 hE1 S2 hE2 x1f x70 x73 x53 q104 eW xsb qsb bk toQ lk2 S3 hWR hes hq w1 w2 w3 w4 w5 w6 w7 w8 w9 w10 S4 p70 p73 xfa eW2 toQ2 qsa xsa S5 hab xfb b5 b142 b7 hcase hpr hq5 b70 lk5; lia)) (by (clear h hk hS hK hQ hE hT ha h01 u bnd hV hW h12 hE1 S2 hE2 x1f x70 x73 x53 q104 eW xsb qsb bk toQ lk2 S3 hWR hes hq w1 w2 w3 w4 w5 w6 w7 w8 w9 w10 S4 p70 p73 xfa eW2 toQ2 qsa xsa S5 hab xfb b5 b142 b7 hcase hpr hq5 b70 lk5; lia)), x1f i (by omega)]
        have n76 : Nb 6 76 = Mq 6 76 := by
          have z : Na 6 76 = Mq 6 76 := by rw [w3.2 76 (by decide) (by decide) (by decide) (by decide) (by decide) (by decide) (by decide) (by decide) (by decide) (by decide) (by decide), stQ_6 (by decide), nx_6 (by decide)]
          rcases hcase with ⟨_, _, q⟩ | ⟨_, q⟩
          · rw [q, up_ne (by decide)]; exact z
          · rw [q, up_ne (by decide), nx_6 (by decide), nx_6 (by decide), up_ne (by decide)]; exact z
        have qsB : QSb Mq Nb := by
          rcases hcase with ⟨_, _, q⟩ | ⟨_, q⟩
          · rw [q]; exact qsa
          · rw [q]; exact QSb_tr qsa (QSb_tr (QA_QSb (QA_tr (QF_QA nx_QF) (QF_QA nx_QF))) ⟨fun r hr => up_ne (fun h => hr (by rw [h]; decide)), fun j _ => by rw [up_ne (by decide)]⟩)
        have eW3 : ∀ lm j, whS (Mx 70) (Mx 73) lm (a, j) = (tS (Mx 70) 259 ab).bind fun a4 => PTj (Mx 70) lm 12 (a4, j) := fun lm j => by rw [eW2, hpr, Option.bind_some]
        refine y_176t (dq := dq) (e := Mq 6 104) S5 (by rw [b1 29 (.inl rfl)]; (clear h hk hS hK hQ hE hT ha h01 bnd hV hW h12 hE1 S2 hE2 x1f x70 x73 x53 q104 eW xsb qsb bk toQ lk2 S3 hWR hes hq w2 w3 w4 w5 w6 w7 w8 w9 w10 S4 p70 p73 xfa eW2 toQ2 qsa xsa S5 xfb b5 b142 b7 hcase hpr hq5 b70 lk5 b1 n76 qsB eW3; omega)) (by rw [n76]; (clear h hk hS hK hQ hE hT ha h01 bnd hV hW h12 hE1 S2 hE2 x1f x70 x73 x53 eW xsb qsb bk toQ lk2 S3 hWR hes hq w1 w2 w3 w4 w6 w7 w8 w9 w10 S4 p70 p73 xfa eW2 toQ2 qsa xsa S5 xfb b5 b142 b7 hcase hpr hq5 b70 lk5 b1 qsB eW3; lia)) (fun hb => by rw [if_neg (by (clear h hk hS hK hQ hE hT ha h01 u bnd hV hW h12 hE1 S2 hE2 x1f x70 x73 x53 q104 eW xsb qsb bk toQ lk2 S3 hWR hes hq w1 w2 w3 w4 w5 w6 w7 w8 w9 w10 S4 p70 p73 xfa eW2 toQ2 qsa xsa S5 hab xfb b5 b142 b7 hcase hpr hq5 b70 lk5 b1 n76 qsB eW3; lia))]; (clear h hk hS hK hQ hE hT h01 u hV hW hE1 S2 hE2 x1f x70 x73 x53 q104 eW xsb qsb bk toQ lk2 S3 hWR hes hq w1 w2 w3 w4 w5 w6 w7 w8 w9 w10 S4 p70 p73 xfa eW2 toQ2 qsa xsa S5 hab xfb b5 b142 b7 hcase hpr hq5 b70 lk5 b1 n76 qsB eW3 hb; omega)) bk (fun hb => by rw [b70, lk5.2, lk5.1.2.2.2 hb, ← eW3]; exact hS hb) hV hW (fun F' M' N' a' v kk S9 ha9 P Sm hv hkk E3 hsy hq9 => ?_) (fun hb Mx' hx hq9 => ?_)
        · refine hK F' _ _ a' (SS_le S9 (by (clear h hk hS hK hQ hE hT ha h01 u bnd hV hW h12 hE1 S2 hE2 x1f x70 x73 x53 eW xsb qsb bk toQ lk2 S3 hWR hes hq w1 w2 w3 w4 w6 w7 w8 w9 w10 S4 p70 p73 xfa eW2 toQ2 qsa xsa S5 xfb b5 b142 b7 hcase hpr hq5 b70 lk5 b1 n76 qsB eW3 S9 ha9 P Sm hv hkk E3 hsy hq9; omega))) (by (clear h hk hS hK hQ hE hT ha h01 u bnd hV hW h12 hE1 S2 hE2 x1f x70 x73 x53 q104 eW xsb qsb bk toQ lk2 S3 hWR hes hq w2 w3 w4 w5 w6 w7 w8 w9 w10 S4 p70 p73 xfa eW2 toQ2 qsa xsa S5 xfb b5 b142 b7 hcase hpr hq5 b70 lk5 b1 n76 qsB eW3 S9 P Sm hv hkk E3 hsy hq9; omega)) ⟨Ma, Na, Mb, Nb, aa, ab, pr, M', N', v, kk, hWR, ⟨hab, xfb, b5, b142, hcase⟩, ?_, Sm, hv, hkk, E3, rfl, rfl⟩ (fun lm hlm => ?_) (fun G Qtq hg => toQ2 G Qtq fun V' hV' hW' => hq5 V' G Qtq hV' hW' (hq9 V' G Qtq hV' hW' hg))
          · exact P
          · have lk9 := LKP_X (b := b) (M1 := Xw_ b (Xn_ M' b kk a') (if b = 0 then -1 else Mx 5 4) (Mx 5 3) pr (Mb 5 3)) (Mx := M') (by rw [Xw_r (by decide) (by decide) (by decide), Xn_r (by decide)]) (by rw [Xw_r (by decide) (by decide) (by decide), Xn_r (by decide)]) (by rw [Xw_r (by decide) (by decide) (by decide)]; exact (Xn_XF (M := M')).2.1 18 (by decide) (by decide) (by decide) (by decide) (by decide)) (by rw [Xw_r (by decide) (by decide) (by decide)]; exact (Xn_XF (M := M')).2.1 19 (by decide) (by decide) (by decide) (by decide) (by decide))
            have lkP : LKP b Mb M' := LKP_tr (LKP_F (nX_XF (M := Mb))).1 (LKP_tr (LKP_X (sX_r (by decide) (by decide) (by decide) (by decide) (by decide)) (sX_r (by decide) (by decide) (by decide) (by decide) (by decide)) (sX_1 (by decide)) (sX_1 (by decide))).1 (LKP_P P))
            have l1 := (LOK_s lk5.1 (LKP_tr lkP lk9.1) hlm).2
            have l2 := (LOK_s lkP lk9.1 l1).1
            have e := hsy lm l2
            rw [b70, lk5.2] at e
            rw [eW3, lk9.2]; exact e
        · exact hQ hb Mx' (XSb_tr xsa (XSb_tr (XA_XSb (XF_XA xfb)) hx)) (fun G Qtq hk9 => toQ2 G Qtq fun V' hV' hW' => hq5 V' G Qtq hV' hW' (hq9 V' G Qtq hV' hW' (fun M' hs => hk9 M' ⟨hs.1, hs.2.1, hs.2.2.1, hs.2.2.2.1, QSb_tr qsB hs.2.2.2.2⟩)))
      · exact hQ hb Mx' (XSb_tr xsa hx) (fun G Qtq hk9 => toQ2 G Qtq fun V' hV' hW' => hq5 V' G Qtq hV' hW' (fun M' hs => hk9 M' ⟨hs.1, hs.2.1, hs.2.2.1, hs.2.2.2.1, QSb_tr qsa hs.2.2.2.2⟩))
    · refine hQ hb Mx' (XSb_tr xsb (XA_XSb (XF_XA hx))) (fun G Qtq hk9 => toQ G Qtq fun V' hV' hW' => hq _ _ fun M' p1 p2 p3 p4 p5 => q_227s p1 ?_)
      rw [if_neg (by decide)]
      exact q_313s27 (d := dq + 13) hV' hW' p1 (hk9 _ ⟨p1, p2, p3, p4, QSb_tr qsb (QA_QSb (QF_QA p5))⟩)
  intro _
  have m8 : nX_ Mx 1 8 = b := by rw [nX_1 (by decide)]; exact hE.2.2.2.2.2.2.1
  unfold X2_ at main
  rcases h01 with hb | hb
  · rw [if_pos (by (clear h hk hS hK hQ hE hT ha u bnd hV hW h12 hE1 S2 hE2 x1f x70 x73 x53 q104 eW xsb qsb bk toQ lk2 main; lia))]; rw [if_pos hb, if_pos hb] at main; exact main
  · rw [if_neg (by (clear h hk hS hK hQ hE hT ha u bnd hV hW h12 hE1 S2 hE2 x1f x70 x73 x53 q104 eW xsb qsb bk toQ lk2 main; lia))]; rw [if_neg (by omega), if_neg (by omega)] at main
    refine x_171 (by rw [nX_1 (by decide)]; exact h.1.1.2.1.1) (by rw [nX_ne (by decide)]; omega) ?_
    rw [nX_ne (r := 5) (by decide)]; exact main
end WX
end T184_wn
section T185_hd
/-! states: within the line of an input or a save -/
def SL [Inhabited gh_] (b F : Int) (Mx Mq : mm_) (a mask ee w : Int) : Prop := TS b F Mx Mq a ∧ ((0 ≤ Mx 5 4 ∧ 2 * Mx 5 4 ≤ a + ee) ∧ (0 < Mq 6 62 ∧ Mq 6 62 ≤ 1000) ∧ (0 ≤ Mq 6 63 ∧ 2 * Mq 6 63 ≤ a + ee)) ∧ (0 ≤ mask ∧ mask < 4096)
  ∧ (b = 1 → (∃ xs, SRW Mx Mq xs) ∧ MB (Mx 123 (Mx 1 18)) (Mx 1 34) mask ∧ Mq 193 (Mq 6 62 - 1) = w ∧ Mq 192 (Mq 6 62 - 1) = Mx 1 18 ∧ Mq 194 (Mq 6 62 - 1) = mask)
section HD
variable {d dq : Nat} {b F F' : Int} {Mx Mq M1 N1 : mm_} {a a' mask ee ee' w s who : Int}
theorem SL_st [Inhabited gh_] (h : SS b F Mx Mq a mask ee) (he : ee ≤ 10) (hw : w = 0 ∨ w = 1) : SL b F Mx (stQ_ Mq w mask) a mask ee w := by
  have ha := ER_a (TS_E h.1)
  obtain ⟨h1, ⟨s1, s2, s3⟩, hm, h4⟩ := h
  have hV := h1.1.2.1
  have k := stQ_k (N := Mq) (w := w) (mk := mask)
  have e1 : Mq 6 62 + 1 - 1 = Mq 6 62 := by omega
  refine ⟨TS_sq h1, ⟨by omega, by rw [stQ_62]; (clear hw h1 s1 s3 hm h4 hV k e1; omega), by rw [stQ_6 (by decide)]; omega⟩, hm, fun hb => ?_⟩
  obtain ⟨⟨xs, hs⟩, hl, hmb⟩ := h4 hb
  refine ⟨SRW_st0 hs hl s3.1 hw (by rw [hV.2.1]; exact ⟨hV.2.2.1, hV.2.2.2.1⟩), hmb, ?_, ?_, ?_⟩
  · rw [stQ_62, e1]; exact k.2.1
  · rw [stQ_62, e1, k.1]; exact hV.2.1
  · rw [stQ_62, e1]; exact k.2.2.1
/-- SL does not see what acts change -/
theorem SL_a [Inhabited gh_] (h : SL b F Mx Mq a mask ee w) (hT : TS b F' M1 N1 a') (hx : XA Mx M1) (hq : QA Mq N1) (he : a + ee ≤ a' + ee') : SL b F' M1 N1 a' mask ee' w := by
  obtain ⟨h1, ⟨s1, s2, s3⟩, hm, h4⟩ := h
  have f54 : M1 5 4 = Mx 5 4 := hx.2.2 4 (by decide)
  have f62 : N1 6 62 = Mq 6 62 := hq.2 62 (by decide)
  have f63 : N1 6 63 = Mq 6 63 := hq.2 63 (by decide)
  refine ⟨hT, ⟨by (clear hT hx hq h1 s2 s3 hm h4 f62 f63; lia), by omega, by (clear hT hx hq h1 s1 s2 hm h4 f54 f62; lia)⟩, hm, fun hb => ?_⟩
  obtain ⟨⟨xs, hs⟩, hmb, r3, r2, r4⟩ := h4 hb
  refine ⟨⟨xs, SRW_a hs hx hq⟩, ?_, ?_, ?_, ?_⟩
  · rw [hx.2.1 34 (by decide), hx.2.1 18 (by decide), XA_r hx (r := 123) (by decide)]; exact hmb
  · rw [f62, QA_r hq (r := 193) (by decide)]; exact r3
  · rw [f62, QA_r hq (r := 192) (by decide), hx.2.1 18 (by decide)]; exact r2
  · rw [f62, QA_r hq (r := 194) (by decide)]; exact r4
theorem SL_go [Inhabited gh_] (h : SL b F Mx Mq a mask ee w) (hE : ER b F (nX_ Mx) (nx_ Mq) (a + 1) 0) : SL b F (nX_ Mx) (nx_ Mq) (a + 1) mask (ee - 1) w := SL_a h (TS_go h.1 hE) (XF_XA nX_XF) (QF_QA nx_QF) (by omega)
/-- X's stim for an in -/
def Xh_ (b : Int) (M : mm_) (w s : Int) : mm_ := if b = 0 then M else stX_ M w s
theorem SL_in [Inhabited gh_] (h : SL b F Mx Mq a mask ee w) (hw : w = 0 ∨ w = 1) (hs : b = 1 → who = s) : SL b F (Xh_ b Mx w s) (inM_ Mq who) a mask (ee + 2) w := by
  obtain ⟨h1, ⟨s1, s2, s3⟩, hm, h4⟩ := h
  have t1 : TS b F (Xh_ b Mx w s) (inM_ Mq who) a := by
    unfold Xh_; split
    · exact TS_in h1
    · exact TS_in (TS_st h1)
  have e62 : inM_ Mq who 6 62 = Mq 6 62 := inM_6 (by decide)
  refine ⟨t1, ⟨?_, by rw [e62]; omega, by rw [inM_63]; (clear hw hs h1 s1 s2 hm h4 t1 e62; omega)⟩, hm, fun hb => ?_⟩
  · unfold Xh_; split
    · (clear hw hs h1 s2 s3 hm h4 t1 e62; lia)
    · rw [stX_54]; (clear hw hs h1 s2 s3 hm h4 t1 e62; omega)
  · obtain ⟨⟨xs, hsr⟩, hmb, r3, r2, r4⟩ := h4 hb
    have e : Xh_ b Mx w s = stX_ Mx w s := by unfold Xh_; rw [if_neg (by omega)]
    rw [e, hs hb]
    have q := SRW_in (s := s) hsr s2.1 hw r3 r2 (by rw [r4]; exact hmb)
    rw [hs hb] at e62
    refine ⟨q, ?_, ?_, ?_, ?_⟩
    · rw [stX_r (r := 123) (by decide) (by decide), stX_r (r := 1) (by decide) (by decide)]; exact hmb
    · rw [e62, inM_r (r := 193) (by decide) (by decide) (by decide)]; exact r3
    · rw [e62, inM_r (r := 192) (by decide) (by decide) (by decide), stX_r (r := 1) (by decide) (by decide)]; exact r2
    · rw [e62, inM_r (r := 194) (by decide) (by decide) (by decide)]; exact r4
/-- the line's end: stTo is set -/
theorem SL_end [Inhabited gh_] (h : SL b F Mx Mq a mask ee w) (h62 : 2 * Mq 6 62 ≤ a + ee) : SS b F Mx (up_ Mq 199 (Mq 6 62 - 1) (Mq 6 63)) a mask ee := by
  obtain ⟨h1, ⟨s1, s2, s3⟩, hm, h4⟩ := h
  have e6 : up_ Mq 199 (Mq 6 62 - 1) (Mq 6 63) 6 = Mq 6 := up_ne (by decide)
  have e : ∀ r : Nat, r ≠ 199 → up_ Mq 199 (Mq 6 62 - 1) (Mq 6 63) r = Mq r := fun r h => up_ne h
  have qb : QSb Mq (up_ Mq 199 (Mq 6 62 - 1) (Mq 6 63)) := ⟨fun r hr => e r (fun h => hr (by rw [h]; decide)), fun j _ => by rw [e6]⟩
  refine ⟨TS_c h1 XSb_rf qb (fun _ _ _ => rfl) rfl rfl rfl rfl rfl (fun j _ _ => by rw [e6]) (e _ (by decide)) (e _ (by decide)) (e _ (by decide)) (e _ (by decide)) (e _ (by decide)), ⟨s1, by rw [e6]; (clear h1 s1 s3 hm h4 e6 e qb; omega), by rw [e6]; exact s3⟩, hm, fun hb => ?_⟩
  obtain ⟨⟨xs, hs⟩, hmb, r3, r2, r4⟩ := h4 hb
  have aT : agT (up_ Mq 199 (Mq 6 62 - 1) (Mq 6 63)) = agT Mq := funext fun k => by
    unfold agT
    rw [e6]
    by_cases c : k = Mq 6 62 - 1
    · rw [if_pos c, if_pos c]
    · rw [if_neg c, if_neg c, up_of2 c]
  refine ⟨⟨xs, ?_⟩, fun _ => by rw [e6, up_at], hmb⟩
  unfold SRW SRK nSt at *
  rw [e6, aT, e 192 (by decide), e 193 (by decide), e 194 (by decide), e 198 (by decide), e 200 (by decide)]
  exact hs
end HD
end T185_hd

section T119_cr
/-! create -/
section CR
variable {d dq n : Nat} {b F : Int} {Mx Mq MX MQ Mx1 Mq1 Mx2 Mq2 M : mm_} {a a1 o o1 s z p : Int} {K : Int → mm_ → Prop} {Kv G : mm_ → Prop} {Qt : qt_} {V : vv_} {dec : Int → Option Int}
theorem tpl_a [Inhabited gh_] (hq : QA Mq Mq1) {v : Int} : tpl Mq1 v = tpl Mq v := by unfold tpl; rw [QA_r hq (r := 154) (by decide), hq.2 19 (by decide)]
theorem sgl_a [Inhabited gh_] (hq : QA Mq Mq1) {v : Int} : sgl Mq1 v = sgl Mq v := by unfold sgl; rw [QA_r hq (r := 152) (by decide), hq.2 17 (by decide)]
theorem rtl_a [Inhabited gh_] (hq : QA Mq Mq1) {v : Int} : rtl Mq1 v = rtl Mq v := by unfold rtl; rw [QA_r hq (r := 153) (by decide), hq.2 18 (by decide)]
theorem GT_a [Inhabited gh_] (hx : XA Mx Mx1) (hq : QA Mq Mq1) (h : GT b F Mx Mq p) : GT b F Mx1 Mq1 p := by
  have et : tpl Mq1 = tpl Mq := funext fun v => tpl_a hq
  unfold GT SGT PRT RTT sgl9 tpl9 rtl9 nm9_ gd_ at *
  rw [et, hx.2.2 0 (by decide), hx.2.2 1 (by decide), hx.2.2 2 (by decide), hq.2 17 (by decide), hq.2 18 (by decide), hq.2 19 (by decide), hq.2 61 (by decide), XA_r hx (r := 70) (by decide), XA_r hx (r := 56) (by decide), XA_r hx (r := 57) (by decide), XA_r hx (r := 58) (by decide), XA_r hx (r := 112) (by decide), XA_r hx (r := 113) (by decide), XA_r hx (r := 114) (by decide), XA_r hx (r := 119) (by decide), XA_r hx (r := 122) (by decide), XA_r hx (r := 130) (by decide),
    QA_r hq (r := 151) (by decide), QA_r hq (r := 152) (by decide), QA_r hq (r := 153) (by decide), QA_r hq (r := 154) (by decide), QA_r hq (r := 156) (by decide), QA_r hq (r := 157) (by decide), QA_r hq (r := 158) (by decide), QA_r hq (r := 164) (by decide), QA_r hq (r := 170) (by decide), QA_r hq (r := 182) (by decide), QA_r hq (r := 183) (by decide)]
  exact h
theorem VAL_s [Inhabited gh_] {T fe k : Int} {σ σ' : Int → Int} : ∀ (m : Nat) {c c' : Int}, (∀ i : Nat, i < m → σ' i = σ i) → VAL Mx Mq T fe σ k m c c' → VAL Mx Mq T fe σ' k m c c'
  | 0, c, c', _, h => h
  | m + 1, c, c', hs, ⟨c1, h1, h2⟩ => ⟨c1, VAL_s m (fun i hi => hs i (by omega)) h1, by rw [hs m (by omega)]; exact h2⟩
theorem cr_syn [Inhabited gh_] (hk : Mx 70 a = 17) : acS (Mx 70) dec o a = (gS a).bind fun a1 => (tS (Mx 70) 100 a1).bind fun a2 => (vS (Mx 70) o a2).bind (tS (Mx 70) 259) := by
  unfold acS crS
  rw [if_neg (by omega), if_neg (by omega), if_neg (by omega), if_pos hk]
  cases gS a with
  | none => rfl
  | some a1 =>
    simp only [Option.bind_some]
    cases tS (Mx 70) 100 a1 with
    | none => rfl
    | some a2 => simp only [Option.bind_some]
set_option maxHeartbeats 4000000 in
theorem y_143c [Inhabited gh_] (hn : n ≤ 12) (ho : o = 12 - (n : Int)) (h : TA b F Mx Mq a o) (hG : GT b F Mx Mq p) (hk : Mx 70 a = 17) (hS : b = 1 → acS (Mx 70) dec o a ≠ none)
    (hK : ∀ MX Mx' Mq' a', SM Mx MX 5 (Mq' 205 (Mq 6 75)) → AR b F MX Mq Mx' Mq' a a' o 5 (Mq' 205 (Mq 6 75)) → acS (Mx 70) dec o a = some a' → (∀ (Kv : mm_ → Prop) (Qtq : qt_), Kv Mq' → Tr_ wd0 pg0 (dq + 15) 296 [.inr (.inr 6)] Mq (rv_ Kv) Qtq) → K 0 Mx')
    (hQ : b = 0 → ∀ Mx', XA Mx Mx' → (∀ (Kv : mm_ → Prop) (Qtq : qt_), (∀ M', SQ Mx' Mq M' → Kv M') → Tr_ wd0 pg0 (dq + 15) 296 [.inr (.inr 6)] Mq (rv_ Kv) Qtq) → Qt 8 Mx') :
    Tr_ wd0 pg0 (9 * n + 17) 143 [.inr (.inr 1)] Mx (ri_ K) Qt := by
  rw [cr_syn hk] at hS hK
  have A0 := AM_rf h
  have hE := AM_E A0
  have hT := AM_T A0
  have h01 := hE.2.2.2.2.2.2.2.2.1
  have h75 := h.2.2.2.1
  have hae := ER_a hE
  refine t_143 fun V hV hW => b_143_0 (Tr_mono _) hV hW Mx ?_
  refine y_103 hE (fun e => by omega) (fun _ => ?_)
  rw [if_pos rfl]
  refine y_103 hE (fun e => by omega) (fun _ => ?_)
  rw [if_pos rfl]
  refine y_103 hE (fun e => by omega) (fun _ => ?_)
  rw [if_pos rfl]
  refine y_103 hE (fun e => by omega) (fun _ => ?_)
  rw [if_pos rfl]
  refine y_103 hE (fun _ => ?_) (fun e => absurd hk e)
  rw [if_neg (by decide)]
  refine t_160 fun V2 hV2 hW2 => b_160_0 (Tr_mono _) hV2 hW2 Mx ?_
  refine y_105 hE (by omega) (fun hb => by intro e; rw [e] at hS; exact hS hb rfl) (fun h12 hE1 => ?_) (fun hb h12 => ?_)
  rotate_left
  · refine hQ hb _ (XF_XA fl_XF) fun Kv Qtq hk9 => Tr_301 hT hE hk (.inr ⟨hb, h12, rfl⟩) ?_
    have hsp := SQ_bf hE hb (k := 2) (by decide) QA_rf
    refine t_301 fun V hV hW => b_301_0 (Tr_mono _) hV hW _ _ ?_
    refine q_233s hsp.1 (q_227s hsp.1 ?_)
    rw [if_neg (by decide)]
    exact rv_i (hk9 _ hsp)
  have A1 := AM_go A0 hE1
  have hT1 := AM_T A1
  have e70 := AM_70 A1
  have e71 := AM_71 A1
  rw [gS_e h12, Option.bind_some] at hS
  have pre1 : ∀ (Kv : mm_ → Prop) (Qtq : qt_), Tr_ wd0 pg0 (dq + 14) 301 [.inr (.inr 6), .inl (Mx 71 a)] (nx_ Mq) (rv_ Kv) Qtq → Tr_ wd0 pg0 (dq + 15) 296 [.inr (.inr 6)] Mq (rv_ Kv) Qtq := fun Kv Qtq hq => Tr_301 (d := dq + 11) hT hE hk (.inl ⟨h12, rfl⟩) hq
  refine y_107 hE1 (fun hb => by rw [e70]; intro e; rw [e] at hS; exact hS hb rfl) (fun k1 h13 hE2 => ?_) (fun hb k1 h13 => ?_) (fun hb k1 => ?_)
  rotate_left
  · refine hQ hb _ (XA_tr (XC_XA (AM_X A1)) (XF_XA fl_XF)) fun Kv Qtq hk9 => pre1 _ _ ?_
    have hsp := SQ_bf hE1 hb (k := 2) (by decide) (QC_QA (AM_Q A1))
    refine t_301 fun V hV hW => b_301_0 (Tr_mono _) hV hW _ _ ?_
    refine j_233r hT1 hE1 hb k1 h13 (q_227s hsp.1 ?_)
    rw [if_neg (by decide)]
    exact rv_i (hk9 _ hsp)
  · refine hQ hb _ (XA_tr (XC_XA (AM_X A1)) (XF_XA fl_XF)) fun Kv Qtq hk9 => pre1 _ _ ?_
    have hsp := SQ_bf hE1 hb (k := 1) (by decide) (QC_QA (AM_Q A1))
    refine t_301 fun V hV hW => b_301_0 (Tr_mono _) hV hW _ _ ?_
    refine j_233w hT1 hE1 hb k1 (q_227s hsp.1 ?_)
    rw [if_neg (by decide)]
    exact rv_i (hk9 _ hsp)
  have A2 := AM_go A1 hE2
  have hT2 := AM_T A2
  have hV2' := AM_V A2
  have k1' : Mx 70 (a + 1) = 100 := by rw [← e70]; exact k1
  have hg1 : gd_ Mx (a + 1) := gd_c e70.symm hE1.1
  have hnm : nm9_ (nX_ (nX_ Mx)) (a + 1) := ⟨gd_c (AM_70 A2) hg1, by rw [AM_70 A2]; exact k1'⟩
  rw [tS_e k1' h13, Option.bind_some] at hS
  have hx2 := XC_XA (AM_X A2)
  have hq2 := QC_QA (AM_Q A2)
  have G2 := GT_a hx2 hq2 hG
  refine x_115R hT2 hV2' G2.2.1.1 hnm ?_
  have q151 : nx_ (nx_ Mq) 151 = Mq 151 := by rw [nx_ne (by decide), nx_ne (by decide)]
  have q150 : nx_ (nx_ Mq) 150 (a + 1) = Mx 71 (a + 1) := by rw [nx_ne (by decide), nx_ne (by decide), (hT (a + 1) hg1).2.1]
  rw [tpl_a hq2, q151]
  have hr := tpl_r (Mx := Mx) (Mq := Mq) h.2.1 hG.2.1.1 (v := Mq 151 (a + 1))
  have h619 : Mq 6 19 ≤ 6 ∧ Mq 6 19 = Mx 5 2 := ⟨by have := hG.2.1.1.1; omega, hG.2.1.1.1.2.2⟩
  generalize hrr : tpl Mq (Mq 151 (a + 1)) = r at *
  obtain ⟨kk, hkk⟩ : ∃ kk, kk = if r = -1 then (4 : Int) else 0 := ⟨_, rfl⟩
  have hkc : kk = 0 ∨ (3 ≤ kk ∧ kk ≤ 6) := by rw [hkk]; split <;> omega
  obtain ⟨A3, hz3⟩ := AM_m (k := kk) (tk := a + 1) A2 hkc hg1 (by omega)
  refine y_n4 (A := fun M => V2 33 [rr 1, ii (a + 1), ii r, none, none] [] M) hE2 (by omega) hkk ?_
  -- Q up to the op
  have pre2 : ∀ (Kv : mm_ → Prop) (Qtq : qt_), (∀ V : vv_, Cl_ wd0 (Tr_ wd0 pg0 (dq + 13)) V (rv_ Kv) Qtq m_301 → Wk_ V → V 46 [rr 6, ii (Mx 71 a), ii (a + 1), ii r, none] [] (Qn_ (nx_ (nx_ Mq)) b kk (Mx 71 (a + 1)))) → Tr_ wd0 pg0 (dq + 15) 296 [.inr (.inr 6)] Mq (rv_ Kv) Qtq := by
    intro Kv Qtq hq
    refine pre1 _ _ (t_301 fun V hV hW => b_301_0 (Tr_mono _) hV hW _ _ ?_)
    refine j_233t hT1 hE1 k1 h13 (q_227g (ER_goq hE2) ?_)
    rw [if_pos rfl]
    refine ⟨by omega, q_247R hV2' G2.2.1.1 ?_⟩
    rw [tpl_a hq2, q151, hrr]
    intro _
    have := hq V hV hW
    rw [← q_n4 (M := nx_ (nx_ Mq)) (r := r) (k := 4) hE2.2.2.2.2.2.2.2.1 h01 (by omega) hkk (by decide)] at this
    have h16 : nx_ (nx_ Mq) 6 16 = b := hE2.2.2.2.2.2.2.2.1
    by_cases c : r < 0
    · rw [if_pos c] at this
      rw [if_pos c]
      by_cases c0 : nx_ (nx_ Mq) 6 16 = 0
      · rw [if_pos c0]
        have e : nt_ (nx_ (nx_ Mq)) 4 (Mx 71 (a + 1)) = nx_ (nx_ Mq) := by unfold nt_; rw [if_pos (by omega)]
        rw [e] at this; exact this
      · rw [if_neg c0]
        refine ⟨by omega, q_236 ?_⟩
        rw [q150]; exact this
    · rw [if_neg c] at this
      rw [if_neg c]
      split <;> exact this
  generalize hX3 : Xn_ (nX_ (nX_ Mx)) b kk (a + 1) = Mx3 at *
  generalize hQ3 : Qn_ (nx_ (nx_ Mq)) b kk (Mx 71 (a + 1)) = Mq3 at *
  have hE3 := AM_E A3
  have hx3 := AM_X A3
  have hq3 := AM_Q A3
  have q75 : Mq3 6 75 = Mq 6 75 := by rw [← hQ3, Qn_6 (by decide) (by decide), nx_6 (by decide), nx_6 (by decide)]
  have e53 : Mx3 5 3 = Mx 5 3 := by rw [← hX3, Xn_r (by decide), nX_ne (by decide), nX_ne (by decide)]
  have q3r : ∀ r' : Nat, r' ∉ qaL → Mq3 r' = Mq r' := fun r' hr' => QA_r (QC_QA hq3) hr'
  have q36 : ∀ i : Int, i ∉ qaI → Mq3 6 i = Mq 6 i := fun i hi => (QC_QA hq3).2 i hi
  -- where made changes
  obtain ⟨MX, hMX⟩ : ∃ MX, MX = if r = -1 then Mx else up_ Mx 1 23 (or_ (Mx 1 23) (sl_ 1 r)) := ⟨_, rfl⟩
  obtain ⟨Mx4, hM4⟩ : ∃ Mx4, Mx4 = if r = -1 then Mx3 else up_ Mx3 1 23 (or_ (Mx3 1 23) (sl_ 1 r)) := ⟨_, rfl⟩
  have hSM : SM Mx MX 5 r := by
    rw [hMX]
    by_cases c : r = -1
    · rw [if_pos c]; exact .inl ⟨rfl, .inr c⟩
    · rw [if_neg c]; exact .inr (.inr ⟨rfl, by omega, rfl⟩)
  have e23 : Mx3 1 23 = Mx 1 23 := hx3.2.1 23 (by decide)
  have A4 : AM b F MX Mq Mx4 Mq3 a (a + 1 + 1) o (0 - 3 - 3) (0 + 8 + 8 - 1) := by
    rw [hMX, hM4]
    by_cases c : r = -1
    · rw [if_pos c, if_pos c]; exact A3
    · rw [if_neg c, if_neg c, e23]; exact AM_bx (.inr rfl) A3
  have xm : XA Mx MX := by
    rw [hMX]; by_cases c : r = -1
    · rw [if_pos c]; exact XA_rf
    · rw [if_neg c]; exact XA_u1 (by decide)
  have m5 : ∀ r' : Nat, r' ≠ 1 → MX r' = Mx r' := fun r' hr' => by
    rw [hMX]; by_cases c : r = -1
    · rw [if_pos c]
    · rw [if_neg c, up_ne hr']
  have m45 : ∀ r' : Nat, r' ≠ 1 → Mx4 r' = Mx3 r' := fun r' hr' => by
    rw [hM4]; by_cases c : r = -1
    · rw [if_pos c]
    · rw [if_neg c, up_ne hr']
  have A5 := AM_up (r := 205) (v := r) (AM_em (w := 5) (p := Mx 71 a) A4 q75) (by decide) (rfl : Mq 6 75 = Mq 6 75)
  obtain ⟨X3, hX3v⟩ : ∃ X3, X3 = if r = -1 ∨ b = 0 then 0 else Mq 170 r := ⟨_, rfl⟩
  obtain ⟨x2, hx2v⟩ : ∃ x2, x2 = if r = -1 then -1 else -2 - r := ⟨_, rfl⟩
  obtain ⟨x3, hx3v⟩ : ∃ x3, x3 = if r = -1 then -1 else Mq 170 r := ⟨_, rfl⟩
  have pr0 : r ≠ -1 → 0 ≤ Mq 170 r ∧ Mq 170 r ≤ 3 ∧ ∀ i : Int, 0 ≤ i → i < Mq 170 r → 1 ≤ Mq 182 (8 * r + i) ∧ Mq 182 (8 * r + i) ≤ 3 ∧ Mq 183 (8 * r + i) = 0 := fun c => hG.2.1.2.1 r (by omega) (by omega)
  have pr1 : r ≠ -1 → b = 1 → Mx 122 r = Mq 170 r ∧ ∀ i : Int, 0 ≤ i → i < Mq 170 r → Mx 130 (8 * r + i) + 1 = Mq 182 (8 * r + i) := fun c hb => hG.2.1.2.2 hb r (by omega) (by omega)
  have pre3 : ∀ (Kv : mm_ → Prop) (Qtq : qt_), Tr_ wd0 pg0 (dq + 13) 298 [.inr (.inr 6), .inl (Mq 6 75), .inl x2, .inl x3, .inl (Mx 71 (a + 1))] (up_ (em_ Mq3 5 (Mx 71 a)) 205 (Mq 6 75) r) (rv_ fun M8 => Tr_ wd0 pg0 (dq + 13) 244 [.inr (.inr 6), .inl 59] M8 (rv_ Kv) Qtq) Qtq → Tr_ wd0 pg0 (dq + 15) 296 [.inr (.inr 6)] Mq (rv_ Kv) Qtq := by
    intro Kv Qtq hq
    refine pre2 _ _ fun V hV hW => b_301_46 (Tr_mono _) hV hW _ _ _ _ (q_266 (by omega) (by omega) ?_)
    rw [q75]
    refine ⟨by omega, ?_⟩
    have e150 : em_ Mq3 5 (Mx 71 a) 150 (a + 1) = Mx 71 (a + 1) := by rw [em_r (.inl (by decide)) (by decide), q3r 150 (by decide), (hT (a + 1) hg1).2.1]
    have hq' := Tr_m hq (fun vs M g => (⟨g.1, Tr_rv g.2⟩ : rv_ (fun M8 => Tr_ wd0 pg0 (dq + 13) 244 [.inr (.inr 6), .inl 59] M8 (rv_ fun M9 => rv_ Kv [] M9) Qtq) vs M)) (fun _ _ g => g)
    by_cases c : r = -1
    · rw [if_pos (by omega), if_pos (by omega), e150]
      rw [hx2v, hx3v, if_pos c, if_pos c] at hq'
      exact ⟨by omega, hq'⟩
    · rw [if_neg (by omega), if_neg (by omega), e150]
      rw [hx2v, hx3v, if_neg c, if_neg c] at hq'
      have e170 : em_ Mq3 5 (Mx 71 a) 170 r = Mq 170 r := by rw [em_r (.inl (by decide)) (by decide), q3r 170 (by decide)]
      rw [e170, w32_id (by omega) (by omega)]
      exact ⟨by omega, by omega, hq'⟩
  have goal76 : V2 76 [rr 1, ii (a + 1), ii r, ii X3, none] [] Mx4 := by
    refine b_160_76 (Tr_mono _) hV2 hW2 _ _ _ _ ?_
    refine ⟨(AM_V A4).1, ?_⟩
    have eX2 : w32 (8 * (if 0 < r then r else 0)) = 8 * (if r = -1 then 0 else r) := by
      by_cases c : r = -1
      · rw [if_neg (by omega), if_pos c]; decide
      · rw [if_neg c]
        by_cases c2 : 0 < r
        · rw [if_pos c2, w32_id (by omega) (by omega)]
        · rw [if_neg c2, show r = 0 by omega]; decide
    rw [eX2]
    refine v_158b (Mx := MX) (Mq := Mq) (Mx1 := Mx4) (x2 := x2) (x3 := x3) (x4 := Mx 71 (a + 1)) (w := fun j => if j < X3 then Mq 182 (8 * r + j) - 1 else -1) (wq := fun j => if j < x3 then Mq 182 (8 * r + j) - 1 else -1) (dq := dq) hn ho A5 (by omega) (by omega) ?_ (by omega) ?_ ?_ ?_ ?_ ?_ ?_ ?_
    · rw [hX3v]; split
      · omega
      · exact (pr0 (by omega)).2.1
    · intro j j0 j3
      by_cases c : r = -1
      · rw [if_pos c] at hx3v; rw [if_pos (.inl c)] at hX3v
        rw [if_neg (by omega), if_neg (by omega)]; omega
      · rw [if_neg c] at hx3v
        have q := pr0 c
        rcases h01 with hb | hb
        · rw [if_pos (.inr hb)] at hX3v
          rw [if_neg (by omega)]
          by_cases c3 : j < x3
          · rw [if_pos c3]; have := q.2.2 j j0 (by omega); omega
          · rw [if_neg c3]; omega
        · rw [if_neg (by omega)] at hX3v
          rw [hX3v, hx3v]
          by_cases c3 : j < Mq 170 r
          · rw [if_pos c3]; have := q.2.2 j j0 (by omega); omega
          · rw [if_neg c3]; omega
    · intro j M j0 j3 hxc
      refine ⟨fun c => ?_, fun c => if_neg c⟩
      have c1 : ¬ (r = -1 ∨ b = 0) := fun e => by rw [if_pos e] at hX3v; omega
      rw [if_neg c1] at hX3v
      have c2 : r ≠ -1 := fun e => c1 (.inl e)
      have hb : b = 1 := by omega
      have q := pr0 c2
      have q1 := (pr1 c2 hb).2 j j0 (by omega)
      have q2 := q.2.2 j j0 (by omega)
      rw [if_neg c2, if_pos c, w32_id (by omega) (by omega)]
      have e130 : M 130 = Mx 130 := by rw [hxc.1 130 (by decide), m45 130 (by decide), hx3.1 130 (by decide)]
      rw [e130]
      exact ⟨by omega, by omega, by omega⟩
    · intro V j M j0 j3 hqc hv
      unfold F21
      by_cases c : x3 ≤ j
      · rw [if_pos c]; rw [if_neg (by omega)] at hv; exact hv
      · rw [if_neg c]; rw [if_pos (by omega)] at hv
        have c2 : r ≠ -1 := fun e => by rw [if_pos e] at hx3v; omega
        rw [if_neg c2] at hx2v hx3v
        have q := pr0 c2
        rw [if_pos (by omega)]
        have ei : w32 (w32 (8 * w32 (-2 - x2)) + j) = 8 * r + j := by rw [w32_id (x := -2 - x2) (by omega) (by omega), w32_id (x := 8 * (-2 - x2)) (by omega) (by omega), w32_id (by omega) (by omega)]; omega
        rw [ei]
        have e182 : M 182 = Mq 182 := by rw [hqc.1 182 (by decide), up_ne (by decide), em_r (.inl (by decide)) (by decide), q3r 182 (by decide)]
        rw [e182]
        rw [show Mq 182 (8 * r + j) - 1 + 1 = Mq 182 (8 * r + j) by omega] at hv
        exact ⟨by omega, hv⟩
    · rw [m45 5 (by decide), m5 5 (by decide)]; exact e53
    · intro hb e
      have := hS hb
      rw [m5 70 (by decide)] at e
      rw [e] at this; exact this rfl
    · -- behind the values
      intro Mx6 Mq6 a6 nn s6 z6 A6 hz6 hs6 hx6 hq6 hnn h210 hv6 hval6 hq6'
      rw [m5 70 (by decide)] at hv6
      rw [hv6, Option.bind_some] at hS
      have hE6 := AM_E A6
      obtain ⟨k5, hk5⟩ : ∃ k5, k5 = k5v_ x3 nn := ⟨_, rfl⟩
      have hkc5 : k5 = 0 ∨ (3 ≤ k5 ∧ k5 ≤ 6) := by rw [hk5]; unfold k5v_; split <;> omega
      have hgX : gd_ MX (a + 1) := gd_c (m5 70 (by decide)) hg1
      obtain ⟨A7, hz7⟩ := AM_m (k := k5) (tk := a + 1) A6 hkc5 hgX (by omega)
      rw [m5 71 (by decide)] at A7 hz7
      refine y_n5v (q := x3) (kk := k5) (A := fun M => Tr_ wd0 pg0 (9 * n + 15) 138 [.inr (.inr 1), .inl 36] M (rv_ fun M2 => Tr_ wd0 pg0 (9 * n + 15) 138 [.inr (.inr 1), .inl r] M2 (rv_ fun M3 => Tr_ wd0 pg0 (9 * n + 15) 138 [.inr (.inr 1), .inl nn] M3 (rv_ fun M4 => rv_ (fun M8 => Tr_ wd0 pg0 (9 * n + 16) 121 [.inr (.inr 1), .inl 59] M8 (rv_ fun M9 => bl_ 0 ∧ ri_ K [.inl 0] M9) Qt) [] M4) Qt) Qt) Qt) hE6 (by omega) ?_ hk5 ?_
      · by_cases c : r = -1
        · exact .inl ⟨c, by rw [hx3v, if_pos c]⟩
        · refine .inr ⟨c, fun hb => ?_⟩
          rw [hx3v, hX3v, if_neg c, if_neg (by omega)]
          exact ⟨rfl, (pr0 c).1⟩
      generalize hX7 : Xn_ Mx6 b k5 (a + 1) = Mx7 at *
      rw [← hk5] at hq6'
      have pre7 : ∀ (Kv : mm_ → Prop) (Qtq : qt_), Tr_ wd0 pg0 (dq + 13) 244 [.inr (.inr 6), .inl 59] (Qn_ Mq6 b k5 (Mx 71 (a + 1))) (rv_ Kv) Qtq → Tr_ wd0 pg0 (dq + 15) 296 [.inr (.inr 6)] Mq (rv_ Kv) Qtq := fun Kv Qtq hq => pre3 _ _ (hq6' _ _ hq)
      have q7r : ∀ r' : Nat, r' ≠ 6 → Qn_ Mq6 b k5 (Mx 71 (a + 1)) r' = Mq6 r' := fun r' hr' => Qn_r hr'
      have q713 : b = 1 → Qn_ Mq6 b k5 (Mx 71 (a + 1)) 6 13 = 0 → Mq6 6 13 = 0 := fun hb h0 => by
        have := hz7 hb h0
        unfold Qn_ at h0; rw [if_pos (.inr this)] at h0; exact h0
      have q76 : ∀ i : Int, i ≠ 13 → i ≠ 14 → Qn_ Mq6 b k5 (Mx 71 (a + 1)) 6 i = Mq6 6 i := fun i h1 h2 => Qn_6 h1 h2
      generalize hQ7 : Qn_ Mq6 b k5 (Mx 71 (a + 1)) = Mq7 at *
      have hE7 := AM_E A7
      have x7e : Mx7 5 = Mx6 5 ∧ Mx7 142 = Mx6 142 := by rw [← hX7, Xn_r (by decide), Xn_r (by decide)]; exact ⟨rfl, rfl⟩
      have o6 : ∀ r' : Nat, r' = 203 ∨ r' = 204 ∨ r' = 205 → Mq7 r' = up_ (em_ Mq3 5 (Mx 71 a)) 205 (Mq 6 75) r r' := fun r' hr' => by rw [q7r r' (by omega), hq6.1 r' (by rcases hr' with e | e | e <;> rw [e] <;> decide)]
      have hp := PXL_1 (v := nn) hE7.2.2.2.2.2.2.1 h01 (PXL_1 (v := r) hE7.2.2.2.2.2.2.1 h01 (PXL_1 (v := 36) hE7.2.2.2.2.2.2.1 h01 (PXL_0 (b := b) (M := Mx7))))
      have l1 : (([36] : List Int).length : Int) = 1 := rfl
      have l2 : (([r, 36] : List Int).length : Int) = 2 := rfl
      have l3 : (([nn, r, 36] : List Int).length : Int) = 3 := rfl
      have B1 := AM_p A7 (PXL_1 (v := 36) hE7.2.2.2.2.2.2.1 h01 (PXL_0 (b := b) (M := Mx7))) (by omega)
      have B2 := AM_p A7 (PXL_1 (v := r) hE7.2.2.2.2.2.2.1 h01 (PXL_1 (v := 36) hE7.2.2.2.2.2.2.1 h01 (PXL_0 (b := b) (M := Mx7)))) (by omega)
      have B3 := AM_p A7 hp (by omega)
      refine x_138 (AM_V A7).1 (ER_st hE7).1 (ER_st hE7).2 ?_
      refine x_138 (AM_V B1).1 (ER_st (AM_E B1)).1 (ER_st (AM_E B1)).2 ?_
      refine x_138 (AM_V B2).1 (ER_st (AM_E B2)).1 (ER_st (AM_E B2)).2 (rv_i ?_)
      have a6g := A6.2.1
      have a26 : a + 1 + 1 ≤ a6 := inw_v (κ := Mx 70) (o := o) _ _ (by omega) (by have := ER_a hE2; omega) hv6 |>.1
      have h53m : MX 5 3 = Mx 5 3 := by rw [m5 5 (by decide)]
      refine y_end (Mx := MX) (Mq := Mq) (w := 5) (v := r) B3 (fun hb => by rw [m5 70 (by decide)]; exact hS hb) pre7 (by omega) (by omega) ?_ (by omega) ?_ (fun hb h0 => ?_) (fun Mx' Mq' a' hA hs hq => ⟨.inl rfl, ri_i (hK MX Mx' Mq' a' ?_ ?_ ?_ hq)⟩) (fun hb Mx' hx hq => hQ hb Mx' (XA_tr xm hx) hq)
      · rw [q76 75 (by decide) (by decide), hq6.2.1 75 (by decide), up_ne (by decide), em_75, q75]
      · rw [o6 204 (by decide), o6 203 (by decide), o6 205 (by decide), m5 71 (by decide)]
        exact ⟨by rw [up_ne (by decide), ← q75, em_204], by rw [up_ne (by decide), ← q75, em_203], fun _ => by rw [up_at]⟩
      · have h613 := q713 hb h0
        have hk50 := hz7 hb h0
        have h313 : Mq3 6 13 = 0 := by
          have := hq6.2.2 hb h613
          rw [up_ne (by decide), em_6 (by decide)] at this; exact this
        have hk0 := hz3 hb h313
        have hr0 : r ≠ -1 := fun e => by rw [if_pos e] at hkk; omega
        have pq := pr0 hr0
        rw [if_neg hr0] at hx3v
        rw [if_neg (by omega)] at hX3v
        have hnq : nn = Mq 170 r := by
          have : k5v_ x3 nn = 0 := by omega
          unfold k5v_ at this
          by_cases c : x3 < 0 ∨ nn = x3
          · omega
          · rw [if_neg c] at this; omega
        have hv7 := hval6 hb h613 (by omega)
        have hp4 := hp.2.2.2.1 hb
        obtain ⟨s1, s2, s3, _⟩ := hp4.2
        have v205 : Mq7 205 (Mq 6 75) = r := by rw [o6 205 (by decide), up_at]
        have v210 : Mq7 210 (Mq 6 75) = nn := by rw [q7r 210 (by decide)]; exact h210
        have v619 : Mq7 6 19 = Mq 6 19 := by rw [q76 19 (by decide) (by decide), hq6.2.1 19 (by decide), up_ne (by decide), em_6 (by decide), q36 19 (by decide)]
        have vr : ∀ r' : Nat, r' ∉ qaL → Mq7 r' = Mq r' := fun r' hr' => by
          have h6 : r' ≠ 6 := fun e => hr' (by rw [e]; decide)
          rw [q7r r' h6, QA_r (QC_QA (QV_QC hq6)) hr', QA_r (QC_QA (QC_tr em_QC (QC_ur (by decide) (by decide)))) hr', q3r r' hr']
        refine .inr (.inr (.inr (.inr (.inl ⟨?_, ?_, ?_, ?_, ?_, Mx7 5 3, ?_, ?_, ?_, ?_, ?_⟩))))
        · rw [o6 203 (by decide), up_ne (by decide), ← q75, em_203]
        · rw [v205, v619]; omega
        · rw [v210]; omega
        · rw [v210]; omega
        · rw [v210, v205, vr 170 (by decide)]; exact hnq
        · rw [v210, v205, vr 182 (by decide), x7e.1]
          refine VAL_c (σ := fun i => Mq 182 (8 * r + i)) (Mx := Mx6) (Mq := Mq6) (fe := Mq6 6 104) (fun i _ _ => by rw [q7r 227 (by decide), q7r 228 (by decide)]; exact ⟨rfl, rfl⟩) ⟨q7r _ (by decide), q7r _ (by decide), q7r _ (by decide), q7r _ (by decide), q7r _ (by decide)⟩ (by rw [q76 104 (by decide) (by decide)]; omega) (fun _ => rfl) _ (by omega) (fun i _ _ => by rw [q7r 209 (by decide)]) (fun i _ hi => ?_) (VAL_s _ (fun i hi => ?_) hv7)
          · rw [hp.2.2.2.2.1 i (by rw [x7e.1]; exact hi), x7e.2]
          · show Mq 182 (8 * r + (i : Int)) = (if (i : Int) < X3 then Mq 182 (8 * r + i) - 1 else -1) + 1
            rw [if_pos (by omega)]; omega
        · simpa using s3
        · rw [v205]; exact s2
        · rw [v210]; exact s1
        · rw [hp4.1]; rfl
      · rw [hA.2.2.2.2.2.2.2.2.2.2.2.2.1.2.2 (.inr rfl)]; exact hSM
      · have e := hA.2.2.2.2.2.2.2.2.2.2.2.2.1.2.2 (.inr rfl)
        rw [e]; exact hA
      · rw [gS_e h12, Option.bind_some, tS_e k1' h13, Option.bind_some, hv6, Option.bind_some, ← m5 70 (by decide)]; exact hs
    · intro hb Mx' hx hq
      exact hQ hb Mx' (XA_tr xm hx) fun Kv Qtq hk9 => pre3 _ _ (hq _ _ fun M' hM' => q_244s hM'.1 (hk9 _ hM'))
  -- made
  refine b_160_33 (Tr_mono _) hV2 hW2 _ _ _ ?_
  by_cases c : r = -1
  · rw [if_pos c, if_pos c]
    rw [hM4, if_pos c, hX3v, if_pos (.inl c)] at goal76
    exact goal76
  · rw [if_neg c, if_neg c]
    rw [hM4, if_neg c] at goal76
    intro _
    have h8 := hE3.2.2.2.2.2.2.1
    by_cases c0 : Mx3 1 8 = 0
    · rw [if_pos c0]
      rw [hX3v, if_pos (.inr (by omega))] at goal76
      exact goal76
    · rw [if_neg c0]
      rw [hX3v, if_neg (by omega)] at goal76
      have e122 : Mx3 122 r = Mq 170 r := by rw [hx3.1 122 (by decide)]; exact (pr1 c (by omega)).1
      rw [e122]
      exact ⟨(AM_V A3).1, by omega, goal76⟩
end CR
end T119_cr

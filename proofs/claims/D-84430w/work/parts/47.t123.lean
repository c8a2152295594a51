section T123_ou
/-! output whole -/
section OX
variable {d dq n : Nat} {b F : Int} {Mx Mq MX MQ Mx1 Mq1 Mx2 Mq2 M : mm_} {a a1 o o1 s z p : Int} {K : Int → mm_ → Prop} {Kv G : mm_ → Prop} {Qt : qt_} {V : vv_} {dec : Int → Option Int}
theorem ou_syn [Inhabited gh_] (hk : Mx 70 a = 14) : acS (Mx 70) dec o a = (gS a).bind fun a1 => (tS (Mx 70) 100 a1).bind fun a2 => (vS (Mx 70) o a2).bind (ovS (Mx 70) o) := by
  unfold acS ouS
  rw [if_neg (by omega), if_pos hk]
  cases gS a with
  | none => rfl
  | some a1 =>
    simp only [Option.bind_some]
    cases tS (Mx 70) 100 a1 with
    | none => rfl
    | some a2 =>
      simp only [Option.bind_some]
      generalize vS (Mx 70) o a2 = v
      cases v with
      | none => rfl
      | some a3 => rfl
set_option maxHeartbeats 4000000 in
theorem y_143o [Inhabited gh_] (hn : n ≤ 12) (ho : o = 12 - (n : Int)) (h : TA b F Mx Mq a o) (hG : GT b F Mx Mq (Mx 71 a)) (hk : Mx 70 a = 14) (hS : b = 1 → acS (Mx 70) dec o a ≠ none)
    (hK : ∀ MX Mx' Mq' a', SM Mx MX 2 (Mq' 205 (Mq 6 75)) → AR b F MX Mq Mx' Mq' a a' o 2 (Mq' 205 (Mq 6 75)) → acS (Mx 70) dec o a = some a' → (∀ (Kv : mm_ → Prop) (Qtq : qt_), Kv Mq' → Tr_ wd0 pg0 (dq + 15) 296 [.inr (.inr 6)] Mq (rv_ Kv) Qtq) → K 0 Mx')
    (hQ : b = 0 → ∀ Mx', XA Mx Mx' → (∀ (Kv : mm_ → Prop) (Qtq : qt_), (∀ M', SQ Mx' Mq M' → Kv M') → Tr_ wd0 pg0 (dq + 15) 296 [.inr (.inr 6)] Mq (rv_ Kv) Qtq) → Qt 8 Mx') :
    Tr_ wd0 pg0 (9 * n + 17) 143 [.inr (.inr 1)] Mx (ri_ K) Qt := by
  rw [ou_syn hk] at hS hK
  have A0 := AM_rf h
  have hE := AM_E A0
  have hT := AM_T A0
  have h01 := hE.2.2.2.2.2.2.2.2.1
  have h75 := h.2.2.2.1
  have hae := ER_a hE
  refine t_143 fun V hV hW => b_143_0 (Tr_mono _) hV hW Mx ?_
  refine y_103 hE (fun e => by omega) (fun _ => ?_)
  rw [if_pos rfl]
  refine y_103 hE (fun _ => ?_) (fun e => absurd hk e)
  rw [if_neg (by decide)]
  refine t_157 fun V2 hV2 hW2 => b_157_0 (Tr_mono _) hV2 hW2 Mx ?_
  refine y_105 hE (by omega) (fun hb => by intro e; rw [e] at hS; exact hS hb rfl) (fun h12 hE1 => ?_) (fun hb h12 => ?_)
  rotate_left
  · refine hQ hb _ (XF_XA fl_XF) fun Kv Qtq hk9 => Tr_297 hT hE hk (.inr ⟨hb, h12, rfl⟩) ?_
    have hsp := SQ_bf hE hb (k := 2) (by decide) QA_rf
    refine t_297 fun V hV hW => b_297_0 (Tr_mono _) hV hW _ _ ?_
    refine q_233s hsp.1 (q_227s hsp.1 ?_)
    rw [if_neg (by decide)]
    exact rv_i (hk9 _ hsp)
  have A1 := AM_go A0 hE1
  have hT1 := AM_T A1
  have e70 := AM_70 A1
  have e71 := AM_71 A1
  rw [gS_e h12, Option.bind_some] at hS
  have pre1 : ∀ (Kv : mm_ → Prop) (Qtq : qt_), Tr_ wd0 pg0 (dq + 14) 297 [.inr (.inr 6), .inl (Mx 71 a)] (nx_ Mq) (rv_ Kv) Qtq → Tr_ wd0 pg0 (dq + 15) 296 [.inr (.inr 6)] Mq (rv_ Kv) Qtq := fun Kv Qtq hq => Tr_297 (d := dq + 11) hT hE hk (.inl ⟨h12, rfl⟩) hq
  refine y_107 hE1 (fun hb => by rw [e70]; intro e; rw [e] at hS; exact hS hb rfl) (fun k1 h13 hE2 => ?_) (fun hb k1 h13 => ?_) (fun hb k1 => ?_)
  rotate_left
  · refine hQ hb _ (XA_tr (XC_XA (AM_X A1)) (XF_XA fl_XF)) fun Kv Qtq hk9 => pre1 _ _ ?_
    have hsp := SQ_bf hE1 hb (k := 2) (by decide) (QC_QA (AM_Q A1))
    refine t_297 fun V hV hW => b_297_0 (Tr_mono _) hV hW _ _ ?_
    refine j_233r hT1 hE1 hb k1 h13 (q_227s hsp.1 ?_)
    rw [if_neg (by decide)]
    exact rv_i (hk9 _ hsp)
  · refine hQ hb _ (XA_tr (XC_XA (AM_X A1)) (XF_XA fl_XF)) fun Kv Qtq hk9 => pre1 _ _ ?_
    have hsp := SQ_bf hE1 hb (k := 1) (by decide) (QC_QA (AM_Q A1))
    refine t_297 fun V hV hW => b_297_0 (Tr_mono _) hV hW _ _ ?_
    refine j_233w hT1 hE1 hb k1 (q_227s hsp.1 ?_)
    rw [if_neg (by decide)]
    exact rv_i (hk9 _ hsp)
  have A2 := AM_go A1 hE2
  have hT2 := AM_T A2
  have hV2' := AM_V A2
  have k1' : Mx 70 (a + 1) = 100 := by rw [← e70]; exact k1
  have hg1 : gd_ Mx (a + 1) := gd_c e70.symm hE1.1
  have hnm : nm9_ (nX_ (nX_ Mx)) (a + 1) := ⟨gd_c (AM_70 A2) hg1, by rw [AM_70 A2]; exact k1'⟩
  rw [tS_e k1' h13, Option.bind_some] at hS
  have hx2 := XC_XA (AM_X A2)
  have hq2 := QC_QA (AM_Q A2)
  have G2 := GT_a hx2 hq2 hG
  refine x_112R hT2 hV2' G2.1.1 hnm ?_
  have q151 : nx_ (nx_ Mq) 151 = Mq 151 := by rw [nx_ne (by decide), nx_ne (by decide)]
  have q150 : nx_ (nx_ Mq) 150 (a + 1) = Mx 71 (a + 1) := by rw [nx_ne (by decide), nx_ne (by decide), (hT (a + 1) hg1).2.1]
  rw [sgl_a hq2, q151]
  have hr := sgl_r (Mx := Mx) (Mq := Mq) h.2.1 hG.1.1 (v := Mq 151 (a + 1))
  have h617 : Mq 6 17 ≤ 20 ∧ Mq 6 17 = Mx 5 0 := ⟨by have := hG.1.1.1; omega, hG.1.1.1.2.2⟩
  generalize hrr : sgl Mq (Mq 151 (a + 1)) = r at *
  obtain ⟨kk, hkk⟩ : ∃ kk, kk = if r = -1 then (4 : Int) else 0 := ⟨_, rfl⟩
  have hkc : kk = 0 ∨ (3 ≤ kk ∧ kk ≤ 6) := by rw [hkk]; split <;> omega
  obtain ⟨A3, hz3⟩ := AM_m (k := kk) (tk := a + 1) A2 hkc hg1 (by omega)
  refine y_n4 (A := fun M => V2 33 [rr 1, ii (a + 1), ii r, none, none, none, none, none] [] M) hE2 (by omega) hkk ?_
  -- Q up to the op
  have pre2 : ∀ (Kv : mm_ → Prop) (Qtq : qt_), (∀ V : vv_, Cl_ wd0 (Tr_ wd0 pg0 (dq + 13)) V (rv_ Kv) Qtq m_297 → Wk_ V → V 46 [rr 6, ii (Mx 71 a), ii (a + 1), ii r, none, none, none] [] (Qn_ (nx_ (nx_ Mq)) b kk (Mx 71 (a + 1)))) → Tr_ wd0 pg0 (dq + 15) 296 [.inr (.inr 6)] Mq (rv_ Kv) Qtq := by
    intro Kv Qtq hq
    refine pre1 _ _ (t_297 fun V hV hW => b_297_0 (Tr_mono _) hV hW _ _ ?_)
    refine j_233t hT1 hE1 k1 h13 (q_227g (ER_goq hE2) ?_)
    rw [if_pos rfl]
    refine ⟨by omega, q_251R hV2' G2.1.1 ?_⟩
    rw [sgl_a hq2, q151, hrr]
    intro _
    have := hq V hV hW
    rw [← q_n4 (M := nx_ (nx_ Mq)) (r := r) (k := 4) hE2.2.2.2.2.2.2.2.1 h01 (by omega) hkk (by decide)] at this
    have h16 : nx_ (nx_ Mq) 6 16 = b := hE2.2.2.2.2.2.2.2.1
    by_cases c : r < 0
    · rw [if_pos c] at this
      rw [if_pos c]
      by_cases c0 : nx_ (nx_ Mq) 6 16 = 0
      · rw [if_pos c0]
        have e : nt_ (nx_ (nx_ Mq)) 4 (Mx 71 (a + 1)) = nx_ (nx_ Mq) := by unfold nt_; rw [if_pos (by omega)]
        rw [e] at this; exact this
      · rw [if_neg c0]
        refine ⟨by omega, q_236 ?_⟩
        rw [q150]; exact this
    · rw [if_neg c] at this
      rw [if_neg c]
      split <;> exact this
  generalize hX3 : Xn_ (nX_ (nX_ Mx)) b kk (a + 1) = Mx3 at *
  generalize hQ3 : Qn_ (nx_ (nx_ Mq)) b kk (Mx 71 (a + 1)) = Mq3 at *
  have hE3 := AM_E A3
  have hx3 := AM_X A3
  have hq3 := AM_Q A3
  have q75 : Mq3 6 75 = Mq 6 75 := by rw [← hQ3, Qn_6 (by decide) (by decide), nx_6 (by decide), nx_6 (by decide)]
  have e53 : Mx3 5 3 = Mx 5 3 := by rw [← hX3, Xn_r (by decide), nX_ne (by decide), nX_ne (by decide)]
  have q3r : ∀ r' : Nat, r' ∉ qaL → Mq3 r' = Mq r' := fun r' hr' => QA_r (QC_QA hq3) hr'
  have q36 : ∀ i : Int, i ∉ qaI → Mq3 6 i = Mq 6 i := fun i hi => (QC_QA hq3).2 i hi
  -- where made changes
  obtain ⟨MX, hMX⟩ : ∃ MX, MX = if r = -1 then Mx else up_ Mx 1 21 (or_ (Mx 1 21) (sl_ 1 r)) := ⟨_, rfl⟩
  obtain ⟨Mx4, hM4⟩ : ∃ Mx4, Mx4 = if r = -1 then Mx3 else up_ Mx3 1 21 (or_ (Mx3 1 21) (sl_ 1 r)) := ⟨_, rfl⟩
  have hSM : SM Mx MX 2 r := by
    rw [hMX]
    by_cases c : r = -1
    · rw [if_pos c]; exact .inl ⟨rfl, .inr c⟩
    · rw [if_neg c]; exact .inr (.inl ⟨rfl, by omega, rfl⟩)
  have e21 : Mx3 1 21 = Mx 1 21 := hx3.2.1 21 (by decide)
  have A4 : AM b F MX Mq Mx4 Mq3 a (a + 1 + 1) o (0 - 3 - 3) (0 + 8 + 8 - 1) := by
    rw [hMX, hM4]
    by_cases c : r = -1
    · rw [if_pos c, if_pos c]; exact A3
    · rw [if_neg c, if_neg c, e21]; exact AM_bx (.inl rfl) A3
  have xm : XA Mx MX := by
    rw [hMX]; by_cases c : r = -1
    · rw [if_pos c]; exact XA_rf
    · rw [if_neg c]; exact XA_u1 (by decide)
  have m5 : ∀ r' : Nat, r' ≠ 1 → MX r' = Mx r' := fun r' hr' => by
    rw [hMX]; by_cases c : r = -1
    · rw [if_pos c]
    · rw [if_neg c, up_ne hr']
  have m45 : ∀ r' : Nat, r' ≠ 1 → Mx4 r' = Mx3 r' := fun r' hr' => by
    rw [hM4]; by_cases c : r = -1
    · rw [if_pos c]
    · rw [if_neg c, up_ne hr']
  have A5 := AM_up (r := 207) (v := -1) (AM_up (r := 206) (v := -1) (AM_up (r := 205) (v := r) (AM_em (w := 2) (p := Mx 71 a) A4 q75) (by decide) (rfl : Mq 6 75 = Mq 6 75)) (by decide) (rfl : Mq 6 75 = Mq 6 75)) (by decide) (rfl : Mq 6 75 = Mq 6 75)
  obtain ⟨X3, hX3v⟩ : ∃ X3, X3 = if r = -1 then 0 else Mx 112 r := ⟨_, rfl⟩
  obtain ⟨x2, hx2v⟩ : ∃ x2, x2 = if r = -1 then -1 else 3 * r := ⟨_, rfl⟩
  obtain ⟨x3, hx3v⟩ : ∃ x3, x3 = if r = -1 then -1 else Mq 156 r := ⟨_, rfl⟩
  have pr0 : r ≠ -1 → (0 ≤ Mx 112 r ∧ Mx 112 r ≤ 3 ∧ Mq 156 r = Mx 112 r) ∧ ∀ i : Int, 0 ≤ i → i < Mx 112 r → 0 ≤ Mx 113 (3 * r + i) ∧ Mx 113 (3 * r + i) ≤ 2 ∧ Mq 157 (3 * r + i) = Mx 113 (3 * r + i) + 1 := fun c => hG.1.2 r (by omega) (by omega)
  have hr20 : r = -1 ∨ (0 ≤ r ∧ r < 20) := by omega
  have pre3 : ∀ (Kv : mm_ → Prop) (Qtq : qt_), (∀ V : vv_, Cl_ wd0 (Tr_ wd0 pg0 (dq + 13)) V (rv_ Kv) Qtq m_297 → Wk_ V → Tr_ wd0 pg0 (dq + 13) 298 [.inr (.inr 6), .inl (Mq 6 75), .inl x2, .inl x3, .inl (Mx 71 (a + 1))] (up_ (up_ (up_ (em_ Mq3 2 (Mx 71 a)) 205 (Mq 6 75) r) 206 (Mq 6 75) (-1)) 207 (Mq 6 75) (-1)) (rv_ fun M8 => V 115 [rr 6, ii (Mx 71 a), ii (a + 1), ii r, ii (Mq 6 75), none, none] [] M8) Qtq) → Tr_ wd0 pg0 (dq + 15) 296 [.inr (.inr 6)] Mq (rv_ Kv) Qtq := by
    intro Kv Qtq hq
    refine pre2 _ _ fun V hV hW => b_297_46 (Tr_mono _) hV hW _ _ _ _ (q_266 (by omega) (by omega) ?_)
    rw [q75]
    have hk75 : 0 ≤ Mq 6 75 ∧ Mq 6 75 < 1300 := by omega
    refine ⟨hk75, hk75, hk75, ?_⟩
    have e150 : em_ Mq3 2 (Mx 71 a) 150 (a + 1) = Mx 71 (a + 1) := by rw [em_r (.inl (by decide)) (by decide), q3r 150 (by decide), (hT (a + 1) hg1).2.1]
    have hq' := hq V hV hW
    have ha2 : 0 ≤ a + 1 ∧ a + 1 < 1202 := by omega
    by_cases c : r = -1
    · rw [if_pos (by omega), if_pos (by omega), e150]
      rw [hx2v, hx3v, if_pos c, if_pos c] at hq'
      exact ⟨ha2, hq'⟩
    · have c0 : 0 ≤ r ∧ r < 20 := by omega
      rw [if_neg (by omega), if_neg (by omega), e150]
      rw [hx2v, hx3v, if_neg c, if_neg c] at hq'
      have e156 : em_ Mq3 2 (Mx 71 a) 156 r = Mq 156 r := by rw [em_r (.inl (by decide)) (by decide), q3r 156 (by decide)]
      rw [e156, w32_id (by omega) (by omega)]
      exact ⟨c0, ha2, hq'⟩
  have goal69 : V2 69 [rr 1, ii (a + 1), ii r, ii X3, none, none, none, none] [] Mx4 := by
    refine b_157_69 (Tr_mono _) hV2 hW2 _ _ _ _ ?_
    refine ⟨(AM_V A4).1, ?_⟩
    have eX2 : w32 (3 * (if 0 < r then r else 0)) = 3 * (if r = -1 then 0 else r) := by
      by_cases c : r = -1
      · rw [if_neg (by omega), if_pos c]; decide
      · rw [if_neg c]
        by_cases c2 : 0 < r
        · rw [if_pos c2, w32_id (by omega) (by omega)]
        · rw [if_neg c2, show r = 0 by omega]; decide
    rw [eX2]
    refine v_158a (Mx := MX) (Mq := Mq) (Mx1 := Mx4) (x2 := x2) (x3 := x3) (x4 := Mx 71 (a + 1)) (w := fun j => if j < X3 then Mx 113 (3 * r + j) else -1) (wq := fun j => if j < X3 then Mx 113 (3 * r + j) else -1) (dq := dq) hn ho A5 (by decide) (by decide) ?_ (by omega) ?_ ?_ ?_ ?_ ?_ ?_ ?_
    · rw [hX3v]; split
      · decide
      · rename_i c; exact (pr0 c).1.2.1
    · intro j j0 j3
      by_cases c3 : j < X3
      · have c : r ≠ -1 := fun e => by rw [if_pos e] at hX3v; omega
        rw [if_neg c] at hX3v
        have := (pr0 c).2 j j0 (by omega)
        rw [if_pos c3]; exact ⟨by omega, by omega, fun _ => rfl⟩
      · rw [if_neg c3]; exact ⟨by decide, by decide, fun _ => rfl⟩
    · intro j M j0 j3 hxc
      refine ⟨fun c => ?_, fun c => if_neg c⟩
      have c2 : r ≠ -1 := fun e => by rw [if_pos e] at hX3v; omega
      rw [if_neg c2] at hX3v
      have q := (pr0 c2).2 j j0 (by omega)
      have q0 := (pr0 c2).1
      have c0 : 0 ≤ r ∧ r < 20 := by omega
      rw [if_neg c2, if_pos c, w32_id (by omega) (by omega)]
      have e113 : M 113 = Mx 113 := by rw [hxc.1 113 (by decide), m45 113 (by decide), hx3.1 113 (by decide)]
      rw [e113]
      exact ⟨by omega, rfl, q.1⟩
    · intro V j M j0 j3 hqc hv
      unfold F21
      by_cases c : x3 ≤ j
      · have : ¬ j < X3 := by
          by_cases c2 : r = -1
          · rw [if_pos c2] at hX3v; omega
          · rw [if_neg c2] at hX3v hx3v; have := (pr0 c2).1; omega
        rw [if_pos c]; rw [if_neg this] at hv; exact hv
      · have c2 : r ≠ -1 := fun e => by rw [if_pos e] at hx3v; omega
        rw [if_neg c2] at hx2v hx3v hX3v
        have q0 := (pr0 c2).1
        have c0 : 0 ≤ r ∧ r < 20 := by omega
        have q := (pr0 c2).2 j j0 (by omega)
        rw [if_neg c, if_neg (by omega)]; rw [if_pos (by omega)] at hv
        rw [w32_id (by omega) (by omega)]
        have ex2 : x2 + j = 3 * r + j := by omega
        rw [ex2]
        have e157 : M 157 = Mq 157 := by rw [hqc.1 157 (by decide), up_ne (by decide), up_ne (by decide), up_ne (by decide), em_r (.inl (by decide)) (by decide), q3r 157 (by decide)]
        rw [e157, q.2.2]
        exact ⟨by omega, hv⟩
    · rw [m45 5 (by decide), m5 5 (by decide)]; exact e53
    · intro hb e
      have := hS hb
      rw [m5 70 (by decide)] at e
      rw [e] at this; exact this rfl
    · -- behind the values
      intro Mx6 Mq6 a6 nn s6 z6 A6 hz6 hs6 hx6 hq6 hnn h210 hv6 hval6 hq6'
      rw [m5 70 (by decide)] at hv6
      rw [gS_e h12, Option.bind_some, tS_e k1' h13, Option.bind_some, hv6, Option.bind_some] at hK
      rw [hv6, Option.bind_some] at hS
      have hE6 := AM_E A6
      obtain ⟨k5, hk5⟩ : ∃ k5, k5 = k5v_ x3 nn := ⟨_, rfl⟩
      have hkc5 : k5 = 0 ∨ (3 ≤ k5 ∧ k5 ≤ 6) := by rw [hk5]; unfold k5v_; split <;> decide
      have hgX : gd_ MX (a + 1) := gd_c (m5 70 (by decide)) hg1
      obtain ⟨A7, hz7⟩ := AM_m (k := k5) (tk := a + 1) A6 hkc5 hgX (by omega)
      rw [m5 71 (by decide)] at A7 hz7
      have ha2 : 0 ≤ a + 1 ∧ a + 1 < 1202 := by omega
      have a26 : a + 1 + 1 ≤ a6 := inw_v (κ := Mx 70) (o := o) _ _ (by omega) (by have := ER_a hE2; omega) hv6 |>.1
      refine y_n5v (q := x3) (kk := k5) (A := fun M => Tr_ wd0 pg0 (9 * n + 15) 103 [.inr (.inr 1), .inl 21] M (ri_ fun v2 M2 =>
    (if v2 = 0 then
     Tr_ wd0 pg0 (9 * n + 15) 103 [.inr (.inr 1), .inl 22] M2 (ri_ fun v3 M3 =>
      (if v3 = 0 then
       V2 143 [rr 1, ii (a + 1), ii r, ii X3, ii nn, ii 0, none, none] [] M3
      else
       V2 143 [rr 1, ii (a + 1), ii r, ii X3, ii nn, ii 2, none, none] [] M3)) Qt
    else
     V2 143 [rr 1, ii (a + 1), ii r, ii X3, ii nn, ii 1, none, none] [] M2)) Qt) hE6 ha2 ?_ hk5 ?_
      · by_cases c : r = -1
        · exact .inl ⟨c, by rw [hx3v, if_pos c]⟩
        · refine .inr ⟨c, fun hb => ?_⟩
          rw [hx3v, hX3v, if_neg c, if_neg c]
          exact ⟨(pr0 c).1.2.2, (pr0 c).1.1⟩
      generalize hX7 : Xn_ Mx6 b k5 (a + 1) = Mx7 at *
      rw [← hk5] at hq6'
      have x7e : Mx7 5 = Mx6 5 ∧ Mx7 142 = Mx6 142 := by rw [← hX7, Xn_r (by decide), Xn_r (by decide)]; exact ⟨rfl, rfl⟩
      have pre7 : ∀ (Kv : mm_ → Prop) (Qtq : qt_), (∀ V : vv_, Cl_ wd0 (Tr_ wd0 pg0 (dq + 13)) V (rv_ Kv) Qtq m_297 → Wk_ V → V 115 [rr 6, ii (MX 71 a), ii (a + 1), ii r, ii (Mq 6 75), none, none] [] (Qn_ Mq6 b k5 (Mx 71 (a + 1)))) → Tr_ wd0 pg0 (dq + 15) 296 [.inr (.inr 6)] Mq (rv_ Kv) Qtq := fun Kv Qtq hq => pre3 _ _ fun V hV hW => hq6' _ _ (by have := hq V hV hW; rw [m5 71 (by decide)] at this; exact this)
      have q7r : ∀ r' : Nat, r' ≠ 6 → Qn_ Mq6 b k5 (Mx 71 (a + 1)) r' = Mq6 r' := fun r' hr' => Qn_r hr'
      have q713 : b = 1 → Qn_ Mq6 b k5 (Mx 71 (a + 1)) 6 13 = 0 → k5 = 0 ∧ Mq6 6 13 = 0 := fun hb h0 => by
        have := hz7 hb h0
        unfold Qn_ at h0; rw [if_pos (.inr this)] at h0; exact ⟨this, h0⟩
      have q76 : ∀ i : Int, i ≠ 13 → i ≠ 14 → Qn_ Mq6 b k5 (Mx 71 (a + 1)) 6 i = Mq6 6 i := fun i h1 h2 => Qn_6 h1 h2
      generalize hQ7 : Qn_ Mq6 b k5 (Mx 71 (a + 1)) = Mq7 at *
      have hE7 := AM_E A7
      have o6 : ∀ r' : Nat, r' ∉ qvL → Mq7 r' = up_ (up_ (up_ (em_ Mq3 2 (Mx 71 a)) 205 (Mq 6 75) r) 206 (Mq 6 75) (-1)) 207 (Mq 6 75) (-1) r' := fun r' hr' => by rw [q7r r' (fun e => hr' (by rw [e]; decide)), hq6.1 r' hr']
      have o66 : ∀ i : Int, i ∉ qvI → Mq7 6 i = em_ Mq3 2 (Mx 71 a) 6 i := fun i hi => by rw [q76 i (nm_i hi (by decide)) (nm_i hi (by decide)), hq6.2.1 i hi, up_ne (by decide), up_ne (by decide), up_ne (by decide)]
      have Ov : OVM b F MX Mq Mx7 Mq7 a a6 o s6 (z6 - 1) r nn := by
        refine ⟨A7, ⟨hs6, by omega, by omega, hnn.1, hnn.2⟩, ⟨?_, ?_, ?_, ?_, ?_, ?_, ?_⟩, fun hb h0 => ?_⟩
        · rw [o66 75 (by decide), em_75, q75]
        · rw [o6 203 (by decide), up_ne (by decide), up_ne (by decide), up_ne (by decide), ← q75, em_203]
        · rw [o6 204 (by decide), up_ne (by decide), up_ne (by decide), up_ne (by decide), ← q75, em_204, m5 71 (by decide)]
        · rw [o6 205 (by decide), up_ne (by decide), up_ne (by decide), up_at]
        · rw [o6 206 (by decide), up_ne (by decide), up_at]
        · rw [o6 207 (by decide), up_at]
        · rw [q7r 210 (by decide)]; exact h210
        · obtain ⟨k50, h613⟩ := q713 hb h0
          have h313 : Mq3 6 13 = 0 := by
            have := hq6.2.2 hb h613
            rw [up_ne (by decide), up_ne (by decide), up_ne (by decide), em_6 (by decide)] at this; exact this
          have hk0 := hz3 hb h313
          have hr0 : r ≠ -1 := fun e => by rw [if_pos e] at hkk; omega
          have pq := pr0 hr0
          rw [if_neg hr0] at hx3v hX3v
          have hnq : nn = Mq 156 r := by
            have : k5v_ x3 nn = 0 := by omega
            unfold k5v_ at this
            by_cases c : x3 < 0 ∨ nn = x3
            · omega
            · rw [if_neg c] at this; omega
          have hv7 := hval6 hb h613 (by omega)
          have w17 : Mq7 6 17 = Mq 6 17 := by rw [o66 17 (by decide), em_6 (by decide), q36 17 (by decide)]
          have w156 : Mq7 156 = Mq 156 := by rw [o6 156 (by decide), up_ne (by decide), up_ne (by decide), up_ne (by decide), em_r (.inl (by decide)) (by decide), q3r 156 (by decide)]
          have w157 : Mq7 157 = Mq 157 := by rw [o6 157 (by decide), up_ne (by decide), up_ne (by decide), up_ne (by decide), em_r (.inl (by decide)) (by decide), q3r 157 (by decide)]
          refine ⟨by rw [w17]; omega, by rw [w156]; exact hnq, ?_⟩
          rw [w157, x7e.1]
          refine VAL_c (σ := fun i => Mq 157 (3 * r + i)) (Mx := Mx6) (Mq := Mq6) (fe := Mq6 6 104) (fun i _ _ => by rw [q7r 227 (by decide), q7r 228 (by decide)]; exact ⟨rfl, rfl⟩) ⟨q7r _ (by decide), q7r _ (by decide), q7r _ (by decide), q7r _ (by decide), q7r _ (by decide)⟩ (by rw [q76 104 (by decide) (by decide)]; omega) (fun _ => rfl) _ (by omega) (fun i _ _ => by rw [q7r 209 (by decide)]) (fun i _ hi => by rw [x7e.2]) (VAL_s _ (fun i hi => ?_) hv7)
          have := pq.2 (i : Int) (by omega) (by omega)
          show Mq 157 (3 * r + (i : Int)) = (if (i : Int) < X3 then Mx 113 (3 * r + i) else -1) + 1
          rw [if_pos (by omega)]; exact this.2.2
      have G7 : GT b F MX Mq (MX 71 a) := by rw [m5 71 (by decide)]; exact GT_a xm QA_rf hG
      have e70' : Mx7 70 = MX 70 := AM_70 A7
      have hS' : b = 1 → ovS (MX 70) o a6 ≠ none := fun hb => by rw [m5 70 (by decide)]; exact hS hb
      have hk75 : 0 ≤ Mq 6 75 ∧ Mq 6 75 < 1300 := by omega
      have hK' : ∀ Mx' Mq' a', Mq' 205 (Mq 6 75) = r → AR b F MX Mq Mx' Mq' a a' o 2 r → ovS (MX 70) o a6 = some a' → (∀ (Kv : mm_ → Prop) (Qtq : qt_), Kv Mq' → Tr_ wd0 pg0 (dq + 15) 296 [.inr (.inr 6)] Mq (rv_ Kv) Qtq) → bl_ 0 ∧ ri_ K [.inl 0] Mx' := fun Mx' Mq' a' h1 h2 h3 h4 => ⟨.inl rfl, ri_i (hK MX Mx' Mq' a' (by rw [h1]; exact hSM) (by rw [h1]; exact h2) (by rw [m5 70 (by decide)] at h3; exact h3) h4)⟩
      have hQ' : b = 0 → ∀ Mx', XA MX Mx' → (∀ (Kv : mm_ → Prop) (Qtq : qt_), (∀ M', SQ Mx' Mq M' → Kv M') → Tr_ wd0 pg0 (dq + 15) 296 [.inr (.inr 6)] Mq (rv_ Kv) Qtq) → Qt 8 Mx' := fun hb Mx' hx hq => hQ hb Mx' (XA_tr xm hx) hq
      refine y_103 hE7 (fun k2 => ?_) (fun k2 => ?_)
      · rw [if_neg (by decide)]
        exact l_157m1 (dq := dq) hn ho hk75 Ov (by rw [← e70']; exact k2) hS' pre7 hK' hQ' hV2 hW2
      · rw [if_pos rfl]
        refine y_103 hE7 (fun k3 => ?_) (fun k3 => ?_)
        · rw [if_neg (by decide)]
          exact l_157m2 (dq := dq) (d := 9 * n) G7 hk75 (by omega) Ov (by rw [← e70']; exact k3) hS' pre7 hK' hQ' hV2 hW2
        · rw [if_pos rfl]
          exact l_157m0 (dq := dq) (d := 9 * n) Ov (by rw [← e70']; exact k2) (by rw [← e70']; exact k3) hS' pre7 hK' hQ' hV2 hW2
    · intro hb Mx' hx hq
      refine hQ hb Mx' (XA_tr xm hx) fun Kv Qtq hk9 => pre3 _ _ fun V hV hW => hq _ _ fun M' hM' => b_297_115 (Tr_mono _) hV hW _ _ _ _ _ (q_228s hM'.1 ?_)
      rw [if_pos rfl]
      refine q_228s hM'.1 ?_
      rw [if_pos rfl]
      exact q_244s hM'.1 (rv_i (hk9 _ hM'))
  -- sent
  refine b_157_33 (Tr_mono _) hV2 hW2 _ _ _ ?_
  by_cases c : r = -1
  · rw [if_pos c, if_pos c]
    rw [hM4, if_pos c, hX3v, if_pos c] at goal69
    exact goal69
  · rw [if_neg c, if_neg c]
    rw [hM4, if_neg c, hX3v, if_neg c] at goal69
    have e112 : Mx3 112 r = Mx 112 r := by rw [hx3.1 112 (by decide)]
    rw [e112]
    exact ⟨(AM_V A3).1, by omega, goal69⟩
end OX
end T123_ou
section T124_lb
/-! labels -/
/-- X's fault key comes from a label (pass 1); the bound of Q's by the labels passed (pass 2) -/
def LBG [Inhabited gh_] (b F : Int) (Mx Mq : mm_) : Prop := (b = 0 → ff_ = 0 ∨ F = ff_ ∨ ∃ k i : Int, (0 ≤ i ∧ i < k ∧ k < Mx 128 (Mx 1 18)) ∧ Mq 180 (10 * Mx 1 18 + i) = Mq 180 (10 * Mx 1 18 + k) ∧ F = 8 * Mx 71 (Mx 62 (10 * Mx 1 18 + k)) + 3)
  ∧ (b = 1 → ∀ k : Int, 0 ≤ k → k < Mx 128 (Mx 1 18) → bb_ k ≤ bb_ (k + 1) ∨ ((∃ i : Int, (0 ≤ i ∧ i < k) ∧ Mq 180 (10 * Mx 1 18 + i) = Mq 180 (10 * Mx 1 18 + k)) ∧ 8 * Mx 71 (Mx 62 (10 * Mx 1 18 + k)) + 3 ≤ bb_ (k + 1)))
/-- the labels of the type at hand, told up to a token -/
def LBT [Inhabited gh_] (b F : Int) (Mx Mq : mm_) (a : Int) : Prop := lbl9 Mx Mq ∧ (∀ k : Int, 0 ≤ k → k < Mx 128 (Mx 1 18) → Mq 187 (10 * Mx 1 18 + k) = Mx 71 (Mx 62 (10 * Mx 1 18 + k)) ∧ (b = 0 → Mx 62 (10 * Mx 1 18 + k) < a) ∧ ∀ i : Int, 0 ≤ i → i < k → Mx 62 (10 * Mx 1 18 + i) < Mx 62 (10 * Mx 1 18 + k) ∧ (Mq 180 (10 * Mx 1 18 + i) = Mq 180 (10 * Mx 1 18 + k) → F ≤ 8 * Mx 71 (Mx 62 (10 * Mx 1 18 + k)) + 3)) ∧ LBG b F Mx Mq
section LB
variable {d dq n : Nat} {b F F' : Int} {Mx Mq Mx1 Mq1 M : mm_} {a a1 o j p me T : Int} {K : Int → mm_ → Prop} {Kv G : mm_ → Prop} {Qt : qt_} {V : vv_}
theorem nt_nt [Inhabited gh_] {k : Int} : nt_ (nt_ M k p) k p = nt_ M k p := by
  unfold nt_
  by_cases c : M 6 16 = 0
  · rw [if_pos c, if_pos c]
  · rw [if_neg c]
    by_cases c2 : M 6 13 = 0 ∨ p < M 6 14 ∨ p = M 6 14 ∧ k < M 6 13
    · rw [if_pos c2, bf_6 (by decide) (by decide), if_neg c, bf_13, bf_14]
      by_cases c3 : k = 0 ∨ p < p ∨ p = p ∧ k < k
      · rw [if_pos c3]
        unfold bf_
        funext r i
        by_cases h6 : r = 6
        · subst h6
          by_cases i4 : i = 14
          · rw [i4, up_at, up_at]
          · rw [up_off i4, up_off i4]
            by_cases i3 : i = 13
            · rw [i3, up_at, up_at]
            · rw [up_off i3, up_off i4]
        · rw [up_ne h6, up_ne h6]
      · rw [if_neg c3]
    · rw [if_neg c2, if_neg c, if_neg c2]
/-- Q alone notes what comes behind a fault of the first pass -/
theorem ER_nq [Inhabited gh_] {k p : Int} (h : ER b F Mx Mq a o) (hb1 : b = 1) (hk : 1 ≤ k ∧ k ≤ 7) (hp0 : 0 ≤ p ∧ p ≤ 5000) (hF : F ≤ 8 * p + k) : ER b F Mx (nt_ Mq k p) a o := by
  obtain ⟨e1, e2, e3, e4, e5, e6, e7, e8, e9, e10, e11, e12, e13, e14, e15⟩ := h
  obtain ⟨n1, n2, n3, n4⟩ := e11
  have hfq : fqq_ (nt_ Mq k p) = np_ 1 (fqq_ Mq) k p := by rw [nt_fq, e8, hb1]
  have k2 := kk_np (q := fqq_ Mq) (k := k) (p := p) n2 hk.1 hk.2 hp0.1 hp0.2
  have f13 : nt_ Mq k p 6 13 = (np_ 1 (fqq_ Mq) k p).1 := congrArg Prod.fst hfq
  have f14 : nt_ Mq k p 6 14 = (np_ 1 (fqq_ Mq) k p).2 := congrArg Prod.snd hfq
  have hkq : kk_ (fqq_ Mq).1 (fqq_ Mq).2 = kk_ (Mq 6 13) (Mq 6 14) := rfl
  refine ⟨e1, e2, by rw [nt_6 (by decide) (by decide)]; exact e3, e4, by rw [nt_6 (by decide) (by decide)]; exact e5, e6, e7, by rw [nt_6 (by decide) (by decide)]; exact e8, e9, fun hb => absurd (hb.symm.trans hb1) (by decide), ⟨n1, by rw [f13, f14]; exact k2.2, ?_, n4.1, .inr ?_⟩, e12, e13, e14, e15⟩
  · rw [f13, f14, k2.1, n3, hkq]; omega
  · rw [f13, f14, k2.1, hkq]; have := n4.2; omega
/-- X alone notes, in the first pass -/
theorem ER_n1 [Inhabited gh_] {k tk : Int} (h : ER b F Mx Mq a o) (hb : b = 0) (hk : 1 ≤ k ∧ k ≤ 7) (hp0 : 0 ≤ Mx 71 tk ∧ Mx 71 tk ≤ 5000) (hf : Mx 1 7 + 1 + 8 * (1201 - a) ≤ 1000001000 - (gg_ : Int)) : ER b (min F (8 * Mx 71 tk + k)) (nt1_ Mx k tk) Mq a o := by
  obtain ⟨e1, e2, e3, e4, e5, e6, e7, e8, e9, e10, e11, e12, e13, e14, e15⟩ := h
  obtain ⟨n1, n2, n3, n4⟩ := e11
  have k1 := kk_nt1 (M := Mx) (k := k) (t := tk) n1 hk.1 hk.2 hp0.1 hp0.2
  refine ⟨gd_c (nt1_r (by decide)) e1, by rw [nt1_1 (by decide) (by decide) (by decide)]; exact e2, e3, by rw [nt1_1 (by decide) (by decide) (by decide)]; exact e4, e5, e6, by rw [nt1_1 (by decide) (by decide) (by decide)]; exact e7, e8, e9, e10, ⟨k1.2, n2, ?_, by omega, by rw [nt1_1 (by decide) (by decide) (by decide)]; exact n4.2⟩, by rw [nt1_7]; omega, by rw [nt1_7]; omega, by rw [nt1_r (by decide)]; exact e14, by rw [nt1_r (by decide)]; exact e15⟩
  rw [k1.1, n3]; omega
/-- Q's loop over the labels told -/
theorem l_262 [Inhabited gh_] (hV : Cl_ wd0 (Tr_ wd0 pg0 (d + 1)) V (rv_ Kv) Qt m_262) (hW : Wk_ V) {x1 m : Int} (h16 : M 6 16 = 1) (h61 : M 6 61 = T) (hT0 : 0 ≤ T ∧ T < 6) (hm : M 175 T = m ∧ 0 ≤ m ∧ m ≤ 10) (hj : 0 ≤ j ∧ j < m) (ha : 0 ≤ a ∧ a < 1202)
    (hat : ∀ k, 0 ≤ k → k < m → (M 187 (10 * T + k) = M 150 a ↔ k = j) ∧ (k < j → M 187 (10 * T + k) < M 150 a) ∧ (j < k → M 150 a < M 187 (10 * T + k)))
    (hfin : ∀ kk, (kk = 0 ∨ kk = 3) → (kk = 3 ↔ ∃ i, 0 ≤ i ∧ i < j ∧ M 180 (10 * T + i) = M 151 a) → Kv (up_ (up_ (Qn_ M 1 kk (M 150 a)) 188 (10 * T + j) (M 6 75)) 189 (10 * T + j) x1)) :
    ∀ (n : Nat) (k kk : Int), (n : Int) + k = m → 0 ≤ k → (kk = 0 ∨ kk = 3) → (kk = 3 ↔ ∃ i, 0 ≤ i ∧ i < j ∧ i < k ∧ M 180 (10 * T + i) = M 151 a) → V 61 [rr 6, ii x1, ii a, ii k, none] [] (if k ≤ j then Qn_ M 1 kk (M 150 a) else up_ (up_ (Qn_ M 1 kk (M 150 a)) 188 (10 * T + j) (M 6 75)) 189 (10 * T + j) x1) := by
  intro n
  induction n with
  | zero =>
    intro k kk hn hk hkk hd
    have e61 : ∀ i : Int, i = 61 → (if k ≤ j then Qn_ M 1 kk (M 150 a) else up_ (up_ (Qn_ M 1 kk (M 150 a)) 188 (10 * T + j) (M 6 75)) 189 (10 * T + j) x1) 6 i = T := fun i hi => by
      rw [if_neg (by omega), up_ne (by decide), up_ne (by decide), hi, Qn_6 (by decide) (by decide)]; exact h61
    refine b_262_61 (Tr_mono _) hV hW _ _ _ _ ?_
    rw [e61 61 rfl]
    refine ⟨hT0, ?_⟩
    rw [if_neg (c := k ≤ j) (by omega)]
    have e175 : up_ (up_ (Qn_ M 1 kk (M 150 a)) 188 (10 * T + j) (M 6 75)) 189 (10 * T + j) x1 175 T = m := by rw [up_ne (by decide), up_ne (by decide), Qn_r (by decide)]; exact hm.1
    rw [e175, if_neg (by omega)]
    exact rv_i (hfin kk hkk ⟨fun e => by obtain ⟨i, g1, g2, g3, g4⟩ := hd.mp e; exact ⟨i, g1, g2, g4⟩, fun ⟨i, g1, g2, g4⟩ => hd.mpr ⟨i, g1, g2, by omega, g4⟩⟩)
  | succ n ih =>
    intro k kk hn hk hkk hd
    have hkm : k < m := by omega
    have r6 : ∀ r : Nat, r ≠ 6 → r ≠ 188 → r ≠ 189 → (if k ≤ j then Qn_ M 1 kk (M 150 a) else up_ (up_ (Qn_ M 1 kk (M 150 a)) 188 (10 * T + j) (M 6 75)) 189 (10 * T + j) x1) r = M r := fun r h6 h8 h9 => by
      by_cases c : k ≤ j
      · rw [if_pos c, Qn_r h6]
      · rw [if_neg c, up_ne h9, up_ne h8, Qn_r h6]
    have e6 : ∀ i : Int, i ≠ 13 → i ≠ 14 → (if k ≤ j then Qn_ M 1 kk (M 150 a) else up_ (up_ (Qn_ M 1 kk (M 150 a)) 188 (10 * T + j) (M 6 75)) 189 (10 * T + j) x1) 6 i = M 6 i := fun i h3 h4 => by
      by_cases c : k ≤ j
      · rw [if_pos c, Qn_6 h3 h4]
      · rw [if_neg c, up_ne (by decide), up_ne (by decide), Qn_6 h3 h4]
    have hin : w32 (w32 (10 * T) + k) = 10 * T + k := by rw [w32_id (x := 10 * T) (by omega) (by omega), w32_id (by omega) (by omega)]
    have hk1 : w32 (k + 1) = k + 1 := w32_id (by omega) (by omega)
    have hb60 : 0 ≤ 10 * T + k ∧ 10 * T + k < 60 := by omega
    have q := hat k hk hkm
    -- the second half of a turn
    have half : ∀ kk', (kk' = 0 ∨ kk' = 3) → (kk' = 3 ↔ ∃ i, 0 ≤ i ∧ i < j ∧ i < k + 1 ∧ M 180 (10 * T + i) = M 151 a) → V 129 [rr 6, ii x1, ii a, ii k, ii (10 * T + k)] [] (if k ≤ j then Qn_ M 1 kk' (M 150 a) else up_ (up_ (Qn_ M 1 kk' (M 150 a)) 188 (10 * T + j) (M 6 75)) 189 (10 * T + j) x1) := by
      intro kk' hkk' hd'
      have := ih (k + 1) kk' (by omega) (by omega) hkk' hd'
      refine b_262_129 (Tr_mono _) hV hW _ _ _ _ _ ⟨hb60, ha, ?_⟩
      by_cases c : k = j
      · have c1 : k ≤ j := by omega
        rw [if_pos c1, Qn_r (by decide), Qn_r (by decide), if_pos (q.1.mpr c)]
        rw [if_neg (by omega)] at this
        refine ⟨hb60, hb60, ?_⟩
        rw [hk1, Qn_6 (by decide) (by decide)]
        rw [← c] at this
        exact this
      · have e187 : (if k ≤ j then Qn_ M 1 kk' (M 150 a) else up_ (up_ (Qn_ M 1 kk' (M 150 a)) 188 (10 * T + j) (M 6 75)) 189 (10 * T + j) x1) 187 = M 187 := by
          by_cases c2 : k ≤ j
          · rw [if_pos c2, Qn_r (by decide)]
          · rw [if_neg c2, up_ne (by decide), up_ne (by decide), Qn_r (by decide)]
        have e150 : (if k ≤ j then Qn_ M 1 kk' (M 150 a) else up_ (up_ (Qn_ M 1 kk' (M 150 a)) 188 (10 * T + j) (M 6 75)) 189 (10 * T + j) x1) 150 = M 150 := by
          by_cases c2 : k ≤ j
          · rw [if_pos c2, Qn_r (by decide)]
          · rw [if_neg c2, up_ne (by decide), up_ne (by decide), Qn_r (by decide)]
        rw [e187, e150, if_neg (fun e => c (q.1.mp e)), hk1]
        have e : (if k ≤ j then Qn_ M 1 kk' (M 150 a) else up_ (up_ (Qn_ M 1 kk' (M 150 a)) 188 (10 * T + j) (M 6 75)) 189 (10 * T + j) x1) = (if k + 1 ≤ j then Qn_ M 1 kk' (M 150 a) else up_ (up_ (Qn_ M 1 kk' (M 150 a)) 188 (10 * T + j) (M 6 75)) 189 (10 * T + j) x1) := by
          by_cases c2 : k ≤ j
          · rw [if_pos c2, if_pos (by omega)]
          · rw [if_neg c2, if_neg (by omega)]
        rw [e]; exact this
    refine b_262_61 (Tr_mono _) hV hW _ _ _ _ ?_
    rw [e6 61 (by decide) (by decide), h61, r6 175 (by decide) (by decide) (by decide), hm.1, r6 180 (by decide) (by decide) (by decide), r6 151 (by decide) (by decide) (by decide), r6 187 (by decide) (by decide) (by decide), r6 150 (by decide) (by decide) (by decide), hin]
    refine ⟨hT0, ?_⟩
    rw [if_pos hkm]
    refine ⟨hb60, ha, ?_⟩
    by_cases c : M 180 (10 * T + k) = M 151 a
    · have e1 : (if M 180 (10 * T + k) < M 151 a then (-1 : Int) else if M 180 (10 * T + k) = M 151 a then 0 else 1) = 0 := by rw [if_neg (by omega), if_pos c]
      rw [if_pos e1]
      refine ⟨hb60, ha, ?_⟩
      by_cases c2 : M 187 (10 * T + k) < M 150 a
      · have kj : k < j := by
          by_cases c3 : k = j
          · have := q.1.mpr c3; omega
          · by_cases c4 : k < j
            · exact c4
            · have := q.2.2 (by omega); omega
        rw [if_pos c2]
        refine ⟨ha, q_236 ?_⟩
        have := half 3 (.inr rfl) ⟨fun _ => ⟨k, hk, kj, by omega, c⟩, fun _ => rfl⟩
        rw [if_pos (by omega)] at this ⊢
        have en : nt_ (Qn_ M 1 kk (M 150 a)) 3 (M 150 a) = Qn_ M 1 3 (M 150 a) := by
          unfold Qn_
          rw [if_neg (c := (1 : Int) = 0 ∨ (3 : Int) = 0) (by decide)]
          rcases hkk with e | e
          · rw [if_pos (.inr e)]
          · rw [if_neg (by omega), e, nt_nt]
        rw [en]; exact this
      · rw [if_neg c2]; exact half kk hkk ⟨fun e => by obtain ⟨i, g1, g2, g3, g4⟩ := hd.mp e; exact ⟨i, g1, g2, by omega, g4⟩, fun ⟨i, g1, g2, g3, g4⟩ => hd.mpr ⟨i, g1, g2, by
          by_cases e : i = k
          · rw [e] at g2; exact absurd (q.2.1 g2) c2
          · omega, g4⟩⟩
    · have e1 : (if M 180 (10 * T + k) < M 151 a then (-1 : Int) else if M 180 (10 * T + k) = M 151 a then 0 else 1) ≠ 0 := by
        rw [if_neg c]; split <;> omega
      rw [if_neg e1]; exact half kk hkk ⟨fun e => by obtain ⟨i, g1, g2, g3, g4⟩ := hd.mp e; exact ⟨i, g1, g2, by omega, g4⟩, fun ⟨i, g1, g2, g3, g4⟩ => hd.mpr ⟨i, g1, g2, by
        by_cases e : i = k
        · rw [e] at g4; exact absurd g4 c
        · omega, g4⟩⟩
end LB
end T124_lb
section T125_lb
/-! a label of X and of Q -/
def LBR [Inhabited gh_] (b F F' : Int) (Mx Mq Mx' Mq' : mm_) (a o me : Int) : Prop :=
  (F' ≤ F ∧ (b = 1 → F' = F)) ∧ ER b F' Mx' Mq' (a + 2) o ∧ LBT b F' Mx' Mq' (a + 2) ∧ (Fr_ [1, 62, 64, 128, 129] Mx Mx' ∧ ∀ i : Int, i ≠ 3 → i ≠ 4 → i ≠ 5 → i ≠ 7 → i ≠ 19 → Mx' 1 i = Mx 1 i) ∧ (Mx 1 7 ≤ Mx' 1 7 ∧ Mx' 1 7 ≤ Mx 1 7 + 1) ∧ (Fr_ [6, 175, 180, 187, 188, 189] Mq Mq' ∧ ∀ i : Int, i ≠ 12 → i ≠ 13 → i ≠ 14 → Mq' 6 i = Mq 6 i)
  ∧ (b = 0 → (Mx' 128 (Mx 1 18) = Mx 128 (Mx 1 18) + 1 ∧ ∀ i, i ≠ Mx 1 18 → Mx' 128 i = Mx 128 i) ∧ (Mx' 62 (10 * Mx 1 18 + Mx 128 (Mx 1 18)) = a ∧ ∀ i, i ≠ 10 * Mx 1 18 + Mx 128 (Mx 1 18) → Mx' 62 i = Mx 62 i) ∧ Mx' 64 = Mx 64 ∧ Mx' 129 = Mx 129 ∧ Mx' 1 19 = Mx 1 19 ∧ Mq' 188 = Mq 188 ∧ Mq' 189 = Mq 189 ∧ (∀ i, i ≠ Mx 1 18 → Mq' 175 i = Mq 175 i) ∧ (∀ i, i ≠ 10 * Mx 1 18 + Mx 128 (Mx 1 18) → Mq' 180 i = Mq 180 i ∧ Mq' 187 i = Mq 187 i))
  ∧ (b = 1 → Mx' 62 = Mx 62 ∧ Mx' 128 = Mx 128 ∧ Mx' 1 19 = Mx 1 19 + 1 ∧ (Mx' 129 (10 * Mx 1 18 + Mx 1 19) = Mx 5 3 ∧ ∀ i, i ≠ 10 * Mx 1 18 + Mx 1 19 → Mx' 129 i = Mx 129 i) ∧ (Mx' 64 (Mx 1 29 - 1) = or_ (Mx 64 (Mx 1 29 - 1)) (sl_ 1 (Mx 1 19)) ∧ ∀ i, i ≠ Mx 1 29 - 1 → Mx' 64 i = Mx 64 i)
    ∧ Mq' 175 = Mq 175 ∧ Mq' 180 = Mq 180 ∧ Mq' 187 = Mq 187 ∧ (Mq' 188 (10 * Mx 1 18 + Mx 1 19) = Mq 6 75 ∧ Mq' 189 (10 * Mx 1 18 + Mx 1 19) = me) ∧ (∀ i, i ≠ 10 * Mx 1 18 + Mx 1 19 → Mq' 188 i = Mq 188 i ∧ Mq' 189 i = Mq 189 i) ∧ (Mq' 6 13 = 0 → Mq 6 13 = 0))
section LB
variable {d dq n : Nat} {b F F' : Int} {Mx Mq Mx1 Mq1 M : mm_} {a a1 o j p me T : Int} {K : Int → mm_ → Prop} {Kv G : mm_ → Prop} {Qt : qt_} {V : vv_}
theorem y_137p [Inhabited gh_] (h : TA b F Mx Mq a o) (hb : b = 0) (hL : LBT b F Mx Mq a) (hk : Mx 70 a = 100) (hk1 : Mx 70 (a + 1) = 258) (h12 : a < 1200) (hfl : Mx 1 7 + 8 * (1201 - a) + 1 ≤ 1000001000 - (gg_ : Int))
    (hK : ∀ F' Mx' Mq', LBR b F F' Mx Mq Mx' Mq' a o me → (a + 1 < 1200) → (∀ (Kv : mm_ → Prop) (Qtq : qt_), Kv Mq' → Tr_ wd0 pg0 (dq + 4) 262 [.inr (.inr 6), .inl me] Mq (rv_ Kv) Qtq) → Kv Mx')
    (hQ : ∀ Mx', XA Mx Mx' → (∀ (Kv : mm_ → Prop) (Qtq : qt_), (∀ M', SQ Mx' Mq M' → Kv M') → Tr_ wd0 pg0 (dq + 4) 262 [.inr (.inr 6), .inl me] Mq (rv_ Kv) Qtq) → Qt 8 Mx') :
    Tr_ wd0 pg0 (d + 3) 137 [.inr (.inr 1)] Mx (rv_ Kv) Qt := by
  obtain ⟨hT, hVT, hE, h75, h104, h53⟩ := h
  have hER := hE
  have e3 := hE.2.1
  have h8 : Mx 1 8 = 0 := by rw [hE.2.2.2.2.2.2.1]; exact hb
  have h16 : Mq 6 16 = 0 := by rw [hE.2.2.2.2.2.2.2.1]; exact hb
  have h13 : Mq 6 13 = 0 := hE.2.2.2.2.2.2.2.2.2.1 hb
  have hga := hE.1
  have hpa := tk_p hT hga
  have ha0 := ER_a hE
  have hE1 := (ER_go hE h12 (by omega)).1
  obtain ⟨hl9, hl2, hlg⟩ := hL
  have hTT : Mq 6 61 = Mx 1 18 := hVT.2.1
  have hT0 : 0 ≤ Mx 1 18 ∧ Mx 1 18 < 6 := ⟨hVT.2.2.1, hVT.2.2.2.1⟩
  have hc := hl9.1
  have hq175 : Mq 175 (Mx 1 18) = Mx 128 (Mx 1 18) := hc.2.2
  have hp0 : Mq 150 a = Mx 71 a := (hT a hga).2.1.symm
  have hnm : nm9_ Mx a := ⟨hga, hk⟩
  have hb71 := hE.2.2.2.2.2.2.2.2.2.2.2.1
  have hb72 := hE.2.2.2.2.2.2.2.2.2.2.2.2.1
  have ha12 : 0 ≤ a ∧ a < 1202 := by omega
  have go1 : ∀ (Kv : mm_ → Prop) (Qtq : qt_) (V : vv_), (Mq 175 (Mx 1 18) ≠ 10 → V 46 [rr 6, ii me, ii a, none, none] [] (nx_ Mq)) → (Mq 175 (Mx 1 18) = 10 → rv_ Kv [] (bf_ (nx_ Mq) 2 (Mx 71 a))) → Cl_ wd0 (Tr_ wd0 pg0 (dq + 3)) V (rv_ Kv) Qtq m_262 → Wk_ V → V 0 [rr 6, ii me, none, none, none] [] Mq := by
    intro Kv Qtq V hg hs hV hW
    refine b_262_0 (Tr_mono _) hV hW _ _ (j_233t hT hE hk h12 (q_227g (ER_goq hE1) ?_))
    rw [if_pos rfl]
    intro _
    have e61 : nx_ Mq 6 61 = Mx 1 18 := by rw [nx_6 (by decide)]; exact hTT
    have e175 : nx_ Mq 175 = Mq 175 := nx_ne (by decide)
    have e150 : nx_ Mq 150 a = Mx 71 a := by rw [nx_ne (by decide)]; exact hp0
    rw [if_pos (by rw [nx_6 (by decide)]; exact h16), e61, e175, e150]
    refine ⟨hT0, ?_⟩
    by_cases c : Mq 175 (Mx 1 18) = 10
    · rw [if_pos c]
      exact ⟨ha12, q_231o (by rw [nx_6 (by decide)]; exact h13) (hs c)⟩
    · rw [if_neg c]; exact hg c
  refine t_137 fun V hV hW => b_137_0 (Tr_mono _) hV hW Mx ?_
  intro _
  rw [if_pos h8, e3]
  refine ⟨hVT.1, hT0, ?_⟩
  by_cases c10 : Mx 128 (Mx 1 18) = 10
  · rw [if_pos c10]
    refine x_110 ha12.1 ha12.2 (fun e => absurd e (by decide)) (fun _ => ?_)
    refine hQ _ (XF_XA fl_XF) fun Kv Qtq hk9 => t_262 fun V hV hW => go1 Kv Qtq V (fun e => absurd (by omega) e) (fun _ => rv_i (hk9 _ ?_)) hV hW
    have hsp := sp_bf (k := 2) (p := Mx 71 a) hE1 hb (by decide)
    exact ⟨hsp.1, hsp.2, by rw [bf_13, fl_4], ⟨by rw [bf_14, fl_5], fl_b7 hE⟩, QA_tr (QF_QA nx_QF) (QF_QA bf_QF)⟩
  rw [if_neg c10]
  have hc10 : Mx 128 (Mx 1 18) < 10 := by omega
  refine x_110 ha12.1 ha12.2 (fun _ => ?_) (fun e => absurd rfl e)
  refine b_137_41 (Tr_mono _) hV hW _ _ _ ?_
  refine x_113R hT hVT hl9 hnm ?_
  -- what X has noted
  obtain ⟨M1, F', hM1, hE2, hM1r, hM1i, h7b, hF1, hF2, hF3⟩ : ∃ (M1 : mm_) (F' : Int), (V 68 [rr 1, ii a, ii (Mx 128 (Mx 1 18))] [] M1 → (if lbl Mq (Mq 151 a) = -1 then V 68 [rr 1, ii a, ii (Mx 128 (Mx 1 18))] [] Mx else Tr_ wd0 pg0 (d + 2) 116 [.inr (.inr 1), .inl 3, .inl a] Mx (rv_ fun M2 => V 68 [rr 1, ii a, ii (Mx 128 (Mx 1 18))] [] M2) Qt))
      ∧ ER b F' M1 Mq a o ∧ (∀ r : Nat, r ≠ 1 → M1 r = Mx r) ∧ (∀ i : Int, i ≠ 4 → i ≠ 5 → i ≠ 7 → M1 1 i = Mx 1 i) ∧ (Mx 1 7 ≤ M1 1 7 ∧ M1 1 7 ≤ Mx 1 7 + 1) ∧ F' ≤ F ∧ (lbl Mq (Mq 151 a) ≠ -1 → F' ≤ 8 * Mx 71 a + 3) ∧ (F' = F ∨ (lbl Mq (Mq 151 a) ≠ -1 ∧ F' = 8 * Mx 71 a + 3)) := by
    by_cases c : lbl Mq (Mq 151 a) = -1
    · refine ⟨Mx, F, fun h => by rw [if_pos c]; exact h, hE, fun _ _ => rfl, fun _ _ _ _ => rfl, by omega, Int.le_refl _, fun e => absurd c e, .inl rfl⟩
    · refine ⟨nt1_ Mx 3 a, min F (8 * Mx 71 a + 3), fun h => by rw [if_neg c]; exact x_116 ha12.1 ha12.2 (ER_fl hE).1 (ER_fl hE).2 h, ER_n1 hE hb (by decide) hpa (by omega), fun r hr => nt1_r hr, fun i a b c => nt1_1 a b c, by rw [nt1_7]; omega, by omega, fun _ => by omega, by omega⟩
  refine hM1 ?_
  have i10 : w32 (w32 (10 * Mx 1 18) + Mx 128 (Mx 1 18)) = 10 * Mx 1 18 + Mx 128 (Mx 1 18) := by rw [w32_id (x := 10 * Mx 1 18) (by omega) (by omega), w32_id (by omega) (by omega)]
  have ei1 : w32 (Mx 128 (Mx 1 18) + 1) = Mx 128 (Mx 1 18) + 1 := w32_id (by omega) (by omega)
  refine b_137_68 (Tr_mono _) hV hW _ _ _ ?_
  rw [hM1i 18 (by decide) (by decide) (by decide), hM1i 2 (by decide) (by decide) (by decide), hM1r 128 (by decide), i10, ei1]
  refine ⟨by omega, hVT.1, hT0, hT0, ?_⟩
  -- the table
  have hl9' := hl9.2
  generalize hTk : Mx 1 18 = T at *
  generalize hKk : Mx 128 T = k0 at *
  have x70 : up_ (up_ M1 62 (10 * T + k0) a) 128 T (k0 + 1) 70 = Mx 70 := by rw [up_ne (by decide), up_ne (by decide), hM1r 70 (by decide)]
  have x71 : up_ (up_ M1 62 (10 * T + k0) a) 128 T (k0 + 1) 71 = Mx 71 := by rw [up_ne (by decide), up_ne (by decide), hM1r 71 (by decide)]
  have hE3 : ER b F' (up_ (up_ M1 62 (10 * T + k0) a) 128 T (k0 + 1)) Mq a o := ER_X2 hE2 (by rw [up_ne (by decide), up_ne (by decide)]) (fun i _ _ => by rw [up_ne (by decide), up_ne (by decide)]) (by rw [up_ne (by decide), up_ne (by decide)]) (by rw [up_ne (by decide), up_ne (by decide)])
  have hT3 : Tks (up_ (up_ M1 62 (10 * T + k0) a) 128 T (k0 + 1)) Mq := by
    unfold Tks gd_ lk9_ at *
    have z : ∀ r : Nat, r = 69 ∨ r = 70 ∨ r = 71 ∨ r = 72 ∨ r = 73 → up_ (up_ M1 62 (10 * T + k0) a) 128 T (k0 + 1) r = Mx r := fun r hr => by rw [up_ne (by omega), up_ne (by omega), hM1r r (by omega)]
    rw [z 69 (by decide), z 70 (by decide), z 71 (by decide), z 72 (by decide), z 73 (by decide)]
    exact hT
  have x1i : ∀ i : Int, i ≠ 4 → i ≠ 5 → i ≠ 7 → up_ (up_ M1 62 (10 * T + k0) a) 128 T (k0 + 1) 1 i = Mx 1 i := fun i a b c => by rw [up_ne (by decide), up_ne (by decide), hM1i i a b c]
  have x17 : up_ (up_ M1 62 (10 * T + k0) a) 128 T (k0 + 1) 1 7 = M1 1 7 := by rw [up_ne (by decide), up_ne (by decide)]
  have x62 : up_ (up_ M1 62 (10 * T + k0) a) 128 T (k0 + 1) 62 (10 * T + k0) = a ∧ ∀ i, i ≠ 10 * T + k0 → up_ (up_ M1 62 (10 * T + k0) a) 128 T (k0 + 1) 62 i = Mx 62 i := ⟨by rw [up_ne (by decide), up_at], fun i hi => by rw [up_ne (by decide), up_off hi, hM1r 62 (by decide)]⟩
  have x128 : up_ (up_ M1 62 (10 * T + k0) a) 128 T (k0 + 1) 128 T = k0 + 1 ∧ ∀ i, i ≠ T → up_ (up_ M1 62 (10 * T + k0) a) 128 T (k0 + 1) 128 i = Mx 128 i := ⟨by rw [up_at], fun i hi => by rw [up_off hi, up_ne (by decide), hM1r 128 (by decide)]⟩
  have xr : ∀ r : Nat, r ≠ 1 → r ≠ 62 → r ≠ 128 → up_ (up_ M1 62 (10 * T + k0) a) 128 T (k0 + 1) r = Mx r := fun r h1 h2 h3 => by rw [up_ne h3, up_ne h2, hM1r r h1]
  have hXA3 : XA Mx (up_ (up_ M1 62 (10 * T + k0) a) 128 T (k0 + 1)) := ⟨fun r hr => xr r (fun e => hr (by rw [e]; decide)) (fun e => hr (by rw [e]; decide)) (fun e => hr (by rw [e]; decide)), fun i hi => x1i i (nm_i hi (by decide)) (nm_i hi (by decide)) (nm_i hi (by decide)), fun i _ => by rw [xr 5 (by decide) (by decide) (by decide)]⟩
  generalize up_ (up_ M1 62 (10 * T + k0) a) 128 T (k0 + 1) = M3 at *
  refine y_105 hE3 (by rw [x70]; omega) (fun hb1 => by omega) (fun _ hE4 => ?_) (fun _ h12' => by omega)
  have y70 : nX_ M3 70 = Mx 70 := by rw [nX_ne (by decide)]; exact x70
  have y71 : nX_ M3 71 = Mx 71 := by rw [nX_ne (by decide)]; exact x71
  have hT4 : Tks (nX_ M3) (nx_ Mq) := Tks_c nX_XF nx_QF hT3
  refine y_105 hE4 (by rw [y70, hk1]; decide) (fun hb1 => by omega) (fun h13' hE5 => ?_) (fun _ h13' => ?_)
  rotate_left
  · refine hQ _ (XA_tr (XA_tr hXA3 (XF_XA nX_XF)) (XF_XA fl_XF)) fun Kv Qtq hk9 => t_262 fun V hV hW => go1 Kv Qtq V (fun _ => ?_) (fun e => absurd (by omega) c10) hV hW
    have hsp := SQ_bf hE4 hb (k := 2) (by decide) (QF_QA (M := Mq) nx_QF)
    refine b_262_46 (Tr_mono _) hV hW _ _ _ (j_244r hT4 hE4 hb (by decide) (by rw [y70]; exact hk1) h13' ?_)
    intro _
    rw [if_pos (by rw [bf_6 (by decide) (by decide), nx_6 (by decide)]; exact h16)]
    refine q_227s hsp.1 ?_
    rw [if_neg (by decide)]
    exact rv_i (hk9 _ hsp)
  refine rv_i (hK F' _ (up_ (up_ (up_ (nx_ (nx_ Mq)) 180 (10 * T + k0) (Mq 151 a)) 187 (10 * T + k0) (Mx 71 a)) 175 T (k0 + 1)) ?_ h13' (fun Kv Qtq hk9 => t_262 fun V hV hW => go1 Kv Qtq V (fun _ => ?_) (fun e => absurd (by omega) c10) hV hW))
  rotate_left
  · refine b_262_46 (Tr_mono _) hV hW _ _ _ (j_244t hT4 hE4 (by decide) (by rw [y70]; exact hk1) h13' ?_)
    have z6 : ∀ i : Int, i ≠ 12 → nx_ (nx_ Mq) 6 i = Mq 6 i := fun i hi => by rw [nx_6 hi, nx_6 hi]
    have zr : ∀ r : Nat, r ≠ 6 → nx_ (nx_ Mq) r = Mq r := fun r hr => by rw [nx_ne hr, nx_ne hr]
    intro _
    rw [if_pos (by rw [z6 16 (by decide)]; exact h16)]
    refine q_227g (ER_goq hE5) ?_
    rw [if_pos rfl, z6 61 (by decide), hTT, zr 175 (by decide), hq175, zr 151 (by decide), zr 150 (by decide), i10, hp0, ei1]
    exact ⟨hT0, ha12, by omega, hT0, ha12, by omega, hT0, hT0, rv_i hk9⟩
  -- what holds then
  have w6 : ∀ i : Int, i ≠ 12 → up_ (up_ (up_ (nx_ (nx_ Mq)) 180 (10 * T + k0) (Mq 151 a)) 187 (10 * T + k0) (Mx 71 a)) 175 T (k0 + 1) 6 i = Mq 6 i := fun i hi => by rw [up_ne (by decide), up_ne (by decide), up_ne (by decide), nx_6 hi, nx_6 hi]
  have wr : ∀ r : Nat, r ≠ 6 → r ≠ 180 → r ≠ 187 → r ≠ 175 → up_ (up_ (up_ (nx_ (nx_ Mq)) 180 (10 * T + k0) (Mq 151 a)) 187 (10 * T + k0) (Mx 71 a)) 175 T (k0 + 1) r = Mq r := fun r h1 h2 h3 h4 => by rw [up_ne h4, up_ne h3, up_ne h2, nx_ne h1, nx_ne h1]
  have w180 : up_ (up_ (up_ (nx_ (nx_ Mq)) 180 (10 * T + k0) (Mq 151 a)) 187 (10 * T + k0) (Mx 71 a)) 175 T (k0 + 1) 180 (10 * T + k0) = Mq 151 a ∧ ∀ i, i ≠ 10 * T + k0 → up_ (up_ (up_ (nx_ (nx_ Mq)) 180 (10 * T + k0) (Mq 151 a)) 187 (10 * T + k0) (Mx 71 a)) 175 T (k0 + 1) 180 i = Mq 180 i := ⟨by rw [up_ne (by decide), up_ne (by decide), up_at], fun i hi => by rw [up_ne (by decide), up_ne (by decide), up_off hi, nx_ne (by decide), nx_ne (by decide)]⟩
  have w187 : up_ (up_ (up_ (nx_ (nx_ Mq)) 180 (10 * T + k0) (Mq 151 a)) 187 (10 * T + k0) (Mx 71 a)) 175 T (k0 + 1) 187 (10 * T + k0) = Mx 71 a ∧ ∀ i, i ≠ 10 * T + k0 → up_ (up_ (up_ (nx_ (nx_ Mq)) 180 (10 * T + k0) (Mq 151 a)) 187 (10 * T + k0) (Mx 71 a)) 175 T (k0 + 1) 187 i = Mq 187 i := ⟨by rw [up_ne (by decide), up_at], fun i hi => by rw [up_ne (by decide), up_off hi, up_ne (by decide), nx_ne (by decide), nx_ne (by decide)]⟩
  have w175 : up_ (up_ (up_ (nx_ (nx_ Mq)) 180 (10 * T + k0) (Mq 151 a)) 187 (10 * T + k0) (Mx 71 a)) 175 T (k0 + 1) 175 T = k0 + 1 ∧ ∀ i, i ≠ T → up_ (up_ (up_ (nx_ (nx_ Mq)) 180 (10 * T + k0) (Mq 151 a)) 187 (10 * T + k0) (Mx 71 a)) 175 T (k0 + 1) 175 i = Mq 175 i := ⟨by rw [up_at], fun i hi => by rw [up_off hi, up_ne (by decide), up_ne (by decide), nx_ne (by decide), nx_ne (by decide)]⟩
  have hE6 : ER b F' (nX_ (nX_ M3)) (up_ (up_ (up_ (nx_ (nx_ Mq)) 180 (10 * T + k0) (Mq 151 a)) 187 (10 * T + k0) (Mx 71 a)) 175 T (k0 + 1)) (a + 2) o := by
    have := ER_Q (Mq' := up_ (up_ (up_ (nx_ (nx_ Mq)) 180 (10 * T + k0) (Mq 151 a)) 187 (10 * T + k0) (Mx 71 a)) 175 T (k0 + 1)) hE5 (by rw [up_ne (by decide), up_ne (by decide), up_ne (by decide)]) (by rw [up_ne (by decide), up_ne (by decide), up_ne (by decide)]) (by rw [up_ne (by decide), up_ne (by decide), up_ne (by decide)]) (by rw [up_ne (by decide), up_ne (by decide), up_ne (by decide)]) (by rw [up_ne (by decide), up_ne (by decide), up_ne (by decide)])
    rw [show a + 1 + 1 = a + 2 by omega] at this
    exact this
  generalize up_ (up_ (up_ (nx_ (nx_ Mq)) 180 (10 * T + k0) (Mq 151 a)) 187 (10 * T + k0) (Mx 71 a)) 175 T (k0 + 1) = Mq6 at *
  have z1 : ∀ i : Int, i ≠ 3 → nX_ (nX_ M3) 1 i = M3 1 i := fun i hi => by rw [nX_1 hi, nX_1 hi]
  have zr : ∀ r : Nat, r ≠ 1 → nX_ (nX_ M3) r = M3 r := fun r hr => by rw [nX_ne hr, nX_ne hr]
  refine ⟨⟨hF1, fun hb1 => by omega⟩, hE6, ?_, ⟨fun r hr => ?_, fun i a3 a4 a5 a7 a19 => ?_⟩, ?_, ⟨fun r hr => ?_, fun i a b c => w6 i a⟩, fun _ => ?_, fun hb1 => by omega⟩
  · have hLG : LBG b F' (nX_ (nX_ M3)) Mq6 := by
      refine ⟨fun _ => ?_, fun hb1 => by omega⟩
      rw [z1 18 (by decide), x1i 18 (by decide) (by decide) (by decide), hTk, zr 128 (by decide), zr 62 (by decide), zr 71 (by decide), x71, x128.1]
      have old : F' = F → ff_ = 0 ∨ F' = ff_ ∨ ∃ k i : Int, (0 ≤ i ∧ i < k ∧ k < k0 + 1) ∧ Mq6 180 (10 * T + i) = Mq6 180 (10 * T + k) ∧ F' = 8 * Mx 71 (M3 62 (10 * T + k)) + 3 := fun e => by
        have h9 := hlg.1 hb
        rw [hTk, hKk] at h9
        rcases h9 with h9 | h9 | ⟨k, i, h9, h10, h11⟩
        · exact .inl h9
        · exact .inr (.inl (by rw [e]; exact h9))
        · exact .inr (.inr ⟨k, i, by omega, by rw [w180.2 _ (by omega), w180.2 _ (by omega)]; exact h10, by rw [x62.2 _ (by omega), e]; exact h11⟩)
      rcases hF3 with e | ⟨e1, e2⟩
      · exact old e
      · obtain ⟨i, i0, i1, i2⟩ : ∃ i : Int, 0 ≤ i ∧ i < k0 ∧ Mq 180 (10 * T + i) = Mq 151 a := by
          have h9 : lbl Mq (Mq 151 a) ≠ -1 := e1
          unfold lbl at h9
          rw [hTT, hq175] at h9
          rcases fi_r (fun i => Mq 180 (10 * T + i)) (Mq 151 a) k0.toNat 0 with z | z
          · exact absurd z h9
          · exact ⟨_, z.1, by have := z.2.1; omega, z.2.2⟩
        exact .inr (.inr ⟨k0, i, by omega, by rw [w180.2 _ (by omega), w180.1]; exact i2, by rw [x62.1]; exact e2⟩)
    unfold LBT lbl9 nm9_ gd_
    rw [z1 18 (by decide), x1i 18 (by decide) (by decide) (by decide), hTk, zr 128 (by decide), zr 62 (by decide), zr 70 (by decide), zr 71 (by decide), x70, x71, wr 151 (by decide) (by decide) (by decide) (by decide), x128.1, w175.1]
    refine ⟨⟨⟨by omega, by omega, rfl⟩, fun k g0 g1 => ?_⟩, fun k g0 g1 => ?_, hLG⟩
    · by_cases c : k = k0
      · rw [c, x62.1, w180.1]; exact ⟨hnm, rfl⟩
      · rw [x62.2 _ (by omega), w180.2 _ (by omega)]
        have := hl9' k g0 (by omega)
        exact this
    · by_cases c : k = k0
      · rw [c, x62.1, w187.1, w180.1]
        refine ⟨rfl, fun _ => by omega, fun i i0 i1 => ?_⟩
        rw [x62.2 _ (by omega), w180.2 _ (by omega)]
        refine ⟨(hl2 i i0 (by omega)).2.1 hb, fun e => hF2 fun e2 => ?_⟩
        unfold lbl at e2
        rw [hTT, hq175] at e2
        exact fi_no _ _ _ _ e2 (by decide) i i0 (by omega) e
      · rw [x62.2 _ (by omega), w187.2 _ (by omega), w180.2 _ (by omega)]
        obtain ⟨g2, g3, g4⟩ := hl2 k g0 (by omega)
        refine ⟨g2, fun hb => by have := g3 hb; omega, fun i i0 i1 => ?_⟩
        rw [x62.2 _ (by omega), w180.2 _ (by omega)]
        obtain ⟨g5, g6⟩ := g4 i i0 i1
        exact ⟨g5, fun e => Int.le_trans hF1 (g6 e)⟩
  · rw [zr r (fun e => hr (by rw [e]; decide)), xr r (fun e => hr (by rw [e]; decide)) (fun e => hr (by rw [e]; decide)) (fun e => hr (by rw [e]; decide))]
  · rw [z1 i a3, x1i i a4 a5 a7]
  · rw [z1 7 (by decide), x17]; exact h7b
  · exact wr r (fun e => hr (by rw [e]; decide)) (fun e => hr (by rw [e]; decide)) (fun e => hr (by rw [e]; decide)) (fun e => hr (by rw [e]; decide))
  · rw [hTk, hKk, zr 128 (by decide), zr 62 (by decide), zr 64 (by decide), zr 129 (by decide), z1 19 (by decide), x1i 19 (by decide) (by decide) (by decide), xr 64 (by decide) (by decide) (by decide), xr 129 (by decide) (by decide) (by decide), wr 188 (by decide) (by decide) (by decide) (by decide), wr 189 (by decide) (by decide) (by decide) (by decide)]
    exact ⟨x128, x62, rfl, rfl, rfl, rfl, rfl, w175.2, fun i hi => ⟨w180.2 i hi, w187.2 i hi⟩⟩
end LB
end T125_lb
section T126_lb
/-! a label, the second time -/
section LX
variable {b F : Int} {Mx Mq Mx1 : mm_} {a o : Int}
theorem ER_X19 [Inhabited gh_] (h : ER b F Mx Mq a o) (h70 : Mx1 70 = Mx 70) (h1 : ∀ i : Int, 3 ≤ i → i ≤ 8 → Mx1 1 i = Mx 1 i) (h5 : Mx1 5 3 = Mx 5 3) (h19 : bb_ (Mx 1 19) ≤ bb_ (Mx1 1 19)) : ER b F Mx1 Mq a o := by
  unfold ER NR gd_ at *
  rw [h70, h1 3 (by decide) (by decide), h1 4 (by decide) (by decide), h1 5 (by decide) (by decide), h1 6 (by decide) (by decide), h1 7 (by decide) (by decide), h1 8 (by decide) (by decide), h5]
  obtain ⟨e1, e2, e3, e4, e5, e6, e7, e8, e9, e10, ⟨n1, n2, n3, n4, n5⟩, e11⟩ := h
  exact ⟨e1, e2, e3, e4, e5, e6, e7, e8, e9, e10, ⟨n1, n2, n3, n4, n5.imp id fun z => Int.le_trans z h19⟩, e11⟩
end LX
section LB
variable {d dq n : Nat} {b F F' : Int} {Mx Mq Mx1 Mq1 M : mm_} {a a1 o j p me T : Int} {K : Int → mm_ → Prop} {Kv G : mm_ → Prop} {Qt : qt_} {V : vv_}
theorem y_137q0 (ig : Inhabited gh_) (hbc : ∀ k, bb_ k = bb_ 0) (h : TA b F Mx Mq a o) (hb : b = 1) (hL : LBT b F Mx Mq a) (hk : Mx 70 a = 100) (hk1 : Mx 70 (a + 1) = 258) (h12 : a + 1 < 1200) (htr : 1 ≤ Mx 1 29 ∧ Mx 1 29 ≤ 600) (hj : 0 ≤ Mx 1 19 ∧ Mx 1 19 < Mx 128 (Mx 1 18)) (hja : Mx 62 (10 * Mx 1 18 + Mx 1 19) = a)
    (hK : ∀ Mx' Mq', LBR b F F Mx Mq Mx' Mq' a o me → (kk_ (Mq' 6 13) (Mq' 6 14) ≤ kk_ (Mq 6 13) (Mq 6 14) ∧ ((∃ i, (0 ≤ i ∧ i < Mx 1 19) ∧ Mq 180 (10 * Mx 1 18 + i) = Mq 180 (10 * Mx 1 18 + Mx 1 19)) → kk_ (Mq' 6 13) (Mq' 6 14) ≤ 8 * Mx 71 a + 3)) → (∀ (Kv : mm_ → Prop) (Qtq : qt_), Kv Mq' → Tr_ wd0 pg0 (dq + 4) 262 [.inr (.inr 6), .inl me] Mq (rv_ Kv) Qtq) → Kv Mx') :
    Tr_ wd0 pg0 (d + 3) 137 [.inr (.inr 1)] Mx (rv_ Kv) Qt := by
  obtain ⟨hT, hVT, hE, h75, h104, h53⟩ := h
  have e3 := hE.2.1
  have h8 : Mx 1 8 = 1 := by rw [hE.2.2.2.2.2.2.1]; exact hb
  have h16 : Mq 6 16 = 1 := by rw [hE.2.2.2.2.2.2.2.1]; exact hb
  have hga := hE.1
  have hpa := tk_p hT hga
  have ha0 := ER_a hE
  have hE1 := (ER_go hE (by omega) (by omega)).1
  have hTT : Mq 6 61 = Mx 1 18 := hVT.2.1
  have hT0 : 0 ≤ Mx 1 18 ∧ Mx 1 18 < 6 := ⟨hVT.2.2.1, hVT.2.2.2.1⟩
  have hl9 := hL.1
  have hl2 := hL.2.1
  have hlg := hL.2.2
  have hc := hl9.1
  have hq175 : Mq 175 (Mx 1 18) = Mx 128 (Mx 1 18) := hc.2.2
  have hp0 : Mq 150 a = Mx 71 a := (hT a hga).2.1.symm
  have ha12 : 0 ≤ a ∧ a < 1202 := by omega
  have i10 : w32 (w32 (10 * Mx 1 18) + Mx 1 19) = 10 * Mx 1 18 + Mx 1 19 := by rw [w32_id (x := 10 * Mx 1 18) (by omega) (by omega), w32_id (by omega) (by omega)]
  have ei1 : w32 (Mx 1 19 + 1) = Mx 1 19 + 1 := w32_id (by omega) (by omega)
  have ei2 : w32 (Mx 1 29 - 1) = Mx 1 29 - 1 := w32_id (by omega) (by omega)
  refine t_137 fun V hV hW => b_137_0 (Tr_mono _) hV hW Mx ?_
  intro _
  rw [if_neg (by omega), i10, ei1, ei2]
  refine ⟨hVT.1, hVT.1, by omega, by omega, by omega, ?_⟩
  have hl9' := hl9.2
  generalize hTk : Mx 1 18 = T at *
  generalize hjk : Mx 1 19 = j at *
  generalize htk : Mx 1 29 - 1 = tr at *
  have xr : ∀ r : Nat, r ≠ 1 → r ≠ 64 → r ≠ 129 → up_ (up_ (up_ Mx 129 (10 * T + j) (Mx 5 3)) 64 tr (or_ (Mx 64 tr) (sl_ 1 j))) 1 19 (j + 1) r = Mx r := fun r h1 h2 h3 => by rw [up_ne h1, up_ne h2, up_ne h3]
  have x1i : ∀ i : Int, i ≠ 19 → up_ (up_ (up_ Mx 129 (10 * T + j) (Mx 5 3)) 64 tr (or_ (Mx 64 tr) (sl_ 1 j))) 1 19 (j + 1) 1 i = Mx 1 i := fun i hi => by rw [up_off hi, up_ne (by decide), up_ne (by decide)]
  have x19 : up_ (up_ (up_ Mx 129 (10 * T + j) (Mx 5 3)) 64 tr (or_ (Mx 64 tr) (sl_ 1 j))) 1 19 (j + 1) 1 19 = j + 1 := by rw [up_at]
  have x129 : up_ (up_ (up_ Mx 129 (10 * T + j) (Mx 5 3)) 64 tr (or_ (Mx 64 tr) (sl_ 1 j))) 1 19 (j + 1) 129 (10 * T + j) = Mx 5 3 ∧ ∀ i, i ≠ 10 * T + j → up_ (up_ (up_ Mx 129 (10 * T + j) (Mx 5 3)) 64 tr (or_ (Mx 64 tr) (sl_ 1 j))) 1 19 (j + 1) 129 i = Mx 129 i := ⟨by rw [up_ne (by decide), up_ne (by decide), up_at], fun i hi => by rw [up_ne (by decide), up_ne (by decide), up_off hi]⟩
  have x64 : up_ (up_ (up_ Mx 129 (10 * T + j) (Mx 5 3)) 64 tr (or_ (Mx 64 tr) (sl_ 1 j))) 1 19 (j + 1) 64 tr = or_ (Mx 64 tr) (sl_ 1 j) ∧ ∀ i, i ≠ tr → up_ (up_ (up_ Mx 129 (10 * T + j) (Mx 5 3)) 64 tr (or_ (Mx 64 tr) (sl_ 1 j))) 1 19 (j + 1) 64 i = Mx 64 i := ⟨by rw [up_ne (by decide), up_at], fun i hi => by rw [up_ne (by decide), up_off hi, up_ne (by decide)]⟩
  have hE3 : ER b F (up_ (up_ (up_ Mx 129 (10 * T + j) (Mx 5 3)) 64 tr (or_ (Mx 64 tr) (sl_ 1 j))) 1 19 (j + 1)) Mq a o := ER_X19 hE (xr 70 (by decide) (by decide) (by decide)) (fun i h1 h2 => x1i i (by omega)) (by rw [xr 5 (by decide) (by decide) (by decide)]) (by rw [hbc]; exact Int.le_of_eq (hbc _).symm)
  have hT3 : Tks (up_ (up_ (up_ Mx 129 (10 * T + j) (Mx 5 3)) 64 tr (or_ (Mx 64 tr) (sl_ 1 j))) 1 19 (j + 1)) Mq := by
    have hT' := hT
    unfold Tks gd_ lk9_ at *
    rw [xr 69 (by decide) (by decide) (by decide), xr 70 (by decide) (by decide) (by decide), xr 71 (by decide) (by decide) (by decide), xr 72 (by decide) (by decide) (by decide), xr 73 (by decide) (by decide) (by decide)]
    exact hT'
  generalize up_ (up_ (up_ Mx 129 (10 * T + j) (Mx 5 3)) 64 tr (or_ (Mx 64 tr) (sl_ 1 j))) 1 19 (j + 1) = M3 at *
  refine y_105 hE3 (by rw [xr 70 (by decide) (by decide) (by decide)]; omega) (fun _ => by unfold gS; rw [if_pos (by omega)]; exact fun e => by cases e) (fun _ hE4 => ?_) (fun hb0 _ => by omega)
  have y70 : nX_ M3 70 = Mx 70 := by rw [nX_ne (by decide)]; exact xr 70 (by decide) (by decide) (by decide)
  have hT4 : Tks (nX_ M3) (nx_ Mq) := Tks_c nX_XF nx_QF hT3
  refine y_105 hE4 (by rw [y70, hk1]; decide) (fun _ => by unfold gS; rw [if_pos h12]; exact fun e => by cases e) (fun _ hE5 => ?_) (fun hb0 _ => by omega)
  rw [show a + 1 + 1 = a + 2 by omega] at hE5
  have z6 : ∀ i : Int, i ≠ 12 → nx_ (nx_ Mq) 6 i = Mq 6 i := fun i hi => by rw [nx_6 hi, nx_6 hi]
  have zr : ∀ r : Nat, r ≠ 6 → nx_ (nx_ Mq) r = Mq r := fun r hr => by rw [nx_ne hr, nx_ne hr]
  have zx1 : ∀ i : Int, i ≠ 3 → nX_ (nX_ M3) 1 i = M3 1 i := fun i hi => by rw [nX_1 hi, nX_1 hi]
  have zxr : ∀ r : Nat, r ≠ 1 → nX_ (nX_ M3) r = M3 r := fun r hr => by rw [nX_ne hr, nX_ne hr]
  have hmono : ∀ x y, gd_ Mx x → gd_ Mx y → x < y → Mx 71 x < Mx 71 y := fun x y gx gy hxy => (hT y gy).2.2.2.2.1 x gx hxy
  have hat : ∀ k, 0 ≤ k → k < Mx 128 T → (Mq 187 (10 * T + k) = Mq 150 a ↔ k = j) ∧ (k < j → Mq 187 (10 * T + k) < Mq 150 a) ∧ (j < k → Mq 150 a < Mq 187 (10 * T + k)) := by
    intro k k0 k1
    have g := hl2 k k0 k1
    have gk := (hl9' k k0 k1).1.1
    rw [g.1, hp0]
    by_cases c : k = j
    · rw [c, hja]; exact ⟨⟨fun _ => rfl, fun _ => rfl⟩, fun e => by omega, fun e => by omega⟩
    · by_cases c2 : k < j
      · have := ((hl2 j (by omega) hj.2).2.2 k k0 c2).1
        rw [hja] at this
        have := hmono _ _ gk hga this
        exact ⟨⟨fun e => by omega, fun e => by omega⟩, fun _ => this, fun e => by omega⟩
      · have := (g.2.2 j hj.1 (by omega)).1
        rw [hja] at this
        have := hmono _ _ hga gk this
        exact ⟨⟨fun e => by omega, fun e => by omega⟩, fun e => by omega, fun _ => this⟩
  have run : ∀ kk : Int, (∀ kk' : Int, (kk' = 0 ∨ kk' = 3) → (kk' = 3 ↔ ∃ i, 0 ≤ i ∧ i < j ∧ Mq 180 (10 * T + i) = Mq 151 a) → kk' = kk) → (∀ (Kv : mm_ → Prop) (Qtq : qt_), Kv (up_ (up_ (Qn_ (nx_ (nx_ Mq)) 1 kk (Mx 71 a)) 188 (10 * T + j) (Mq 6 75)) 189 (10 * T + j) me) → Tr_ wd0 pg0 (dq + 4) 262 [.inr (.inr 6), .inl me] Mq (rv_ Kv) Qtq) := by
    intro kk hkk Kv Qtq hKv
    refine t_262 fun V hV hW => b_262_0 (Tr_mono _) hV hW _ _ (j_233t hT hE hk (by omega) (q_227g (ER_goq hE1) ?_))
    rw [if_pos rfl]
    intro _
    rw [if_neg (by rw [nx_6 (by decide)]; omega)]
    refine b_262_46 (Tr_mono _) hV hW _ _ _ (j_244t hT4 hE4 (by decide) (by rw [y70]; exact hk1) h12 ?_)
    intro _
    rw [if_neg (by rw [z6 16 (by decide)]; omega)]
    have := l_262 (d := dq + 2) (V := V) (Kv := Kv) (M := nx_ (nx_ Mq)) (j := j) (a := a) (T := T) hV hW (x1 := me) (m := Mx 128 T) (by rw [z6 16 (by decide)]; exact h16) (by rw [z6 61 (by decide)]; exact hTT) hT0 ⟨by rw [zr 175 (by decide)]; exact hq175, hc.1, hc.2.1⟩ hj ha12 (fun k k0 k1 => by rw [zr 187 (by decide), zr 150 (by decide)]; exact hat k k0 k1) (fun kk' h1 h2 => by
      rw [zr 180 (by decide), zr 151 (by decide)] at h2
      rw [hkk kk' h1 h2, zr 150 (by decide), hp0, z6 75 (by decide)]; exact hKv) (Mx 128 T).toNat 0 0 (by omega) (by decide) (.inl rfl) ⟨fun e => absurd e (by decide), fun ⟨i, g1, g2, g3, _⟩ => by omega⟩
    rw [if_pos hj.1] at this
    have e : Qn_ (nx_ (nx_ Mq)) 1 0 (nx_ (nx_ Mq) 150 a) = nx_ (nx_ Mq) := by unfold Qn_; rw [if_pos (.inr rfl)]
    rw [e] at this
    exact this
  obtain ⟨kk, hkk, hdup, hdup2, hrun⟩ : ∃ kk : Int, (kk = 0 ∨ kk = 3) ∧ (kk = 3 → ∃ i, 0 ≤ i ∧ i < j ∧ Mq 180 (10 * T + i) = Mq 151 a) ∧ ((∃ i, 0 ≤ i ∧ i < j ∧ Mq 180 (10 * T + i) = Mq 151 a) → kk = 3) ∧ (∀ (Kv : mm_ → Prop) (Qtq : qt_), Kv (up_ (up_ (Qn_ (nx_ (nx_ Mq)) 1 kk (Mx 71 a)) 188 (10 * T + j) (Mq 6 75)) 189 (10 * T + j) me) → Tr_ wd0 pg0 (dq + 4) 262 [.inr (.inr 6), .inl me] Mq (rv_ Kv) Qtq) := by
    by_cases cd : ∃ i, 0 ≤ i ∧ i < j ∧ Mq 180 (10 * T + i) = Mq 151 a
    · exact ⟨3, .inr rfl, fun _ => cd, fun _ => rfl, run 3 fun kk' h1 h2 => h2.mpr cd⟩
    · exact ⟨0, .inl rfl, fun e => absurd e (by decide), fun e => absurd e cd, run 0 fun kk' h1 h2 => by
        rcases h1 with e | e
        · exact e
        · exact absurd (h2.mp e) cd⟩
  have hQn : ER b F (nX_ (nX_ M3)) (Qn_ (nx_ (nx_ Mq)) 1 kk (Mx 71 a)) (a + 2) o := by
    rcases hkk with e | e
    · unfold Qn_; rw [if_pos (.inr e)]; exact hE5
    · obtain ⟨i, i0, i1, i2⟩ := hdup e
      have e2 : Qn_ (nx_ (nx_ Mq)) 1 kk (Mx 71 a) = nt_ (nx_ (nx_ Mq)) 3 (Mx 71 a) := by unfold Qn_; rw [if_neg (by omega), e]
      rw [e2]
      refine ER_nq hE5 hb (by decide) hpa ?_
      have q1 := (hl9' j hj.1 hj.2).2
      rw [hja] at q1
      have := ((hl2 j hj.1 hj.2).2.2 i i0 i1).2 (by rw [i2, q1])
      rw [hja] at this; exact this
  have w6 : ∀ i : Int, i ≠ 12 → i ≠ 13 → i ≠ 14 → up_ (up_ (Qn_ (nx_ (nx_ Mq)) 1 kk (Mx 71 a)) 188 (10 * T + j) (Mq 6 75)) 189 (10 * T + j) me 6 i = Mq 6 i := fun i h1 h2 h3 => by rw [up_ne (by decide), up_ne (by decide), Qn_6 h2 h3, z6 i h1]
  have wr : ∀ r : Nat, r ≠ 6 → r ≠ 188 → r ≠ 189 → up_ (up_ (Qn_ (nx_ (nx_ Mq)) 1 kk (Mx 71 a)) 188 (10 * T + j) (Mq 6 75)) 189 (10 * T + j) me r = Mq r := fun r h1 h2 h3 => by rw [up_ne h3, up_ne h2, Qn_r h1, zr r h1]
  have w188 : up_ (up_ (Qn_ (nx_ (nx_ Mq)) 1 kk (Mx 71 a)) 188 (10 * T + j) (Mq 6 75)) 189 (10 * T + j) me 188 (10 * T + j) = Mq 6 75 ∧ up_ (up_ (Qn_ (nx_ (nx_ Mq)) 1 kk (Mx 71 a)) 188 (10 * T + j) (Mq 6 75)) 189 (10 * T + j) me 189 (10 * T + j) = me := ⟨by rw [up_ne (by decide), up_at], by rw [up_at]⟩
  have w189 : ∀ i, i ≠ 10 * T + j → up_ (up_ (Qn_ (nx_ (nx_ Mq)) 1 kk (Mx 71 a)) 188 (10 * T + j) (Mq 6 75)) 189 (10 * T + j) me 188 i = Mq 188 i ∧ up_ (up_ (Qn_ (nx_ (nx_ Mq)) 1 kk (Mx 71 a)) 188 (10 * T + j) (Mq 6 75)) 189 (10 * T + j) me 189 i = Mq 189 i := fun i hi => ⟨by rw [up_ne (by decide), up_off hi, Qn_r (by decide), zr 188 (by decide)], by rw [up_off hi, up_ne (by decide), Qn_r (by decide), zr 189 (by decide)]⟩
  have w13 : up_ (up_ (Qn_ (nx_ (nx_ Mq)) 1 kk (Mx 71 a)) 188 (10 * T + j) (Mq 6 75)) 189 (10 * T + j) me 6 13 = 0 → Mq 6 13 = 0 := fun e => by
    rw [up_ne (by decide), up_ne (by decide)] at e
    rcases hkk with ek | ek
    · unfold Qn_ at e; rw [if_pos (.inr ek), z6 13 (by decide)] at e; exact e
    · exfalso
      unfold Qn_ at e
      rw [if_neg (by omega), ek] at e
      unfold nt_ at e
      rw [if_neg (by rw [z6 16 (by decide)]; omega)] at e
      by_cases c : nx_ (nx_ Mq) 6 13 = 0 ∨ Mx 71 a < nx_ (nx_ Mq) 6 14 ∨ Mx 71 a = nx_ (nx_ Mq) 6 14 ∧ 3 < nx_ (nx_ Mq) 6 13
      · rw [if_pos c, bf_13] at e; omega
      · rw [if_neg c] at e; exact c (.inl e)
  have hE6 : ER b F (nX_ (nX_ M3)) (up_ (up_ (Qn_ (nx_ (nx_ Mq)) 1 kk (Mx 71 a)) 188 (10 * T + j) (Mq 6 75)) 189 (10 * T + j) me) (a + 2) o := ER_Q hQn (by rw [up_ne (by decide), up_ne (by decide)]) (by rw [up_ne (by decide), up_ne (by decide)]) (by rw [up_ne (by decide), up_ne (by decide)]) (by rw [up_ne (by decide), up_ne (by decide)]) (by rw [up_ne (by decide), up_ne (by decide)])
  have hkey : kk_ (up_ (up_ (Qn_ (nx_ (nx_ Mq)) 1 kk (Mx 71 a)) 188 (10 * T + j) (Mq 6 75)) 189 (10 * T + j) me 6 13) (up_ (up_ (Qn_ (nx_ (nx_ Mq)) 1 kk (Mx 71 a)) 188 (10 * T + j) (Mq 6 75)) 189 (10 * T + j) me 6 14) ≤ kk_ (Mq 6 13) (Mq 6 14) ∧ ((∃ i, (0 ≤ i ∧ i < j) ∧ Mq 180 (10 * T + i) = Mq 180 (10 * T + j)) → kk_ (up_ (up_ (Qn_ (nx_ (nx_ Mq)) 1 kk (Mx 71 a)) 188 (10 * T + j) (Mq 6 75)) 189 (10 * T + j) me 6 13) (up_ (up_ (Qn_ (nx_ (nx_ Mq)) 1 kk (Mx 71 a)) 188 (10 * T + j) (Mq 6 75)) 189 (10 * T + j) me 6 14) ≤ 8 * Mx 71 a + 3) := by
    rw [up_ne (by decide), up_ne (by decide)]
    rcases hkk with e | e
    · refine ⟨by unfold Qn_; rw [if_pos (.inr e), z6 13 (by decide), z6 14 (by decide)]; exact Int.le_refl _, fun ⟨i, i0, i1⟩ => ?_⟩
      have q1 := (hl9' j hj.1 hj.2).2
      rw [hja] at q1
      have := hdup2 ⟨i, i0.1, i0.2, by rw [i1, q1]⟩
      omega
    · have e2 : Qn_ (nx_ (nx_ Mq)) 1 kk (Mx 71 a) = nt_ (nx_ (nx_ Mq)) 3 (Mx 71 a) := by unfold Qn_; rw [if_neg (by omega), e]
      rw [e2]
      have n2 : vk_ (nx_ (nx_ Mq) 6 13) (nx_ (nx_ Mq) 6 14) := hE5.2.2.2.2.2.2.2.2.2.2.1.2.1
      have hfq : fqq_ (nt_ (nx_ (nx_ Mq)) 3 (Mx 71 a)) = np_ 1 (fqq_ (nx_ (nx_ Mq))) 3 (Mx 71 a) := by rw [nt_fq, z6 16 (by decide), h16]
      have k2 := kk_np (q := fqq_ (nx_ (nx_ Mq))) (k := 3) (p := Mx 71 a) n2 (by decide) (by decide) hpa.1 hpa.2
      have f13 : nt_ (nx_ (nx_ Mq)) 3 (Mx 71 a) 6 13 = (np_ 1 (fqq_ (nx_ (nx_ Mq))) 3 (Mx 71 a)).1 := congrArg Prod.fst hfq
      have f14 : nt_ (nx_ (nx_ Mq)) 3 (Mx 71 a) 6 14 = (np_ 1 (fqq_ (nx_ (nx_ Mq))) 3 (Mx 71 a)).2 := congrArg Prod.snd hfq
      have hkq : kk_ (fqq_ (nx_ (nx_ Mq))).1 (fqq_ (nx_ (nx_ Mq))).2 = kk_ (Mq 6 13) (Mq 6 14) := by
        show kk_ (nx_ (nx_ Mq) 6 13) (nx_ (nx_ Mq) 6 14) = _
        rw [z6 13 (by decide), z6 14 (by decide)]
      rw [f13, f14, k2.1, hkq]
      exact ⟨by omega, fun _ => by omega⟩
  refine rv_i (hK _ (up_ (up_ (Qn_ (nx_ (nx_ Mq)) 1 kk (Mx 71 a)) 188 (10 * T + j) (Mq 6 75)) 189 (10 * T + j) me) ?_ hkey hrun)
  generalize up_ (up_ (Qn_ (nx_ (nx_ Mq)) 1 kk (Mx 71 a)) 188 (10 * T + j) (Mq 6 75)) 189 (10 * T + j) me = Mq6 at *
  refine ⟨⟨Int.le_refl _, fun _ => rfl⟩, hE6, ?_, ⟨fun r hr => ?_, fun i a3 a4 a5 a7 a19 => ?_⟩, ?_, ⟨fun r hr => ?_, w6⟩, fun hb0 => by omega, fun _ => ?_⟩
  · have hLG : LBG b F (nX_ (nX_ M3)) Mq6 := by
      unfold LBG at hlg ⊢
      rw [zx1 18 (by decide), x1i 18 (by decide), hTk, zxr 128 (by decide), zxr 62 (by decide), zxr 71 (by decide), xr 128 (by decide) (by decide) (by decide), xr 62 (by decide) (by decide) (by decide), xr 71 (by decide) (by decide) (by decide), wr 180 (by decide) (by decide) (by decide)]
      rw [hTk] at hlg
      exact hlg
    unfold LBT lbl9 nm9_ gd_ at hL ⊢
    rw [zx1 18 (by decide), x1i 18 (by decide), hTk, zxr 128 (by decide), zxr 62 (by decide), zxr 70 (by decide), zxr 71 (by decide), xr 128 (by decide) (by decide) (by decide), xr 62 (by decide) (by decide) (by decide), xr 70 (by decide) (by decide) (by decide), xr 71 (by decide) (by decide) (by decide), wr 151 (by decide) (by decide) (by decide), wr 175 (by decide) (by decide) (by decide), wr 180 (by decide) (by decide) (by decide), wr 187 (by decide) (by decide) (by decide)]
    rw [hTk] at hL
    refine ⟨hL.1, fun k k0 k1 => ?_, hLG⟩
    have := hL.2.1 k k0 k1
    exact ⟨this.1, fun hb0 => by omega, this.2.2⟩
  · rw [zxr r (fun e => hr (by rw [e]; decide)), xr r (fun e => hr (by rw [e]; decide)) (fun e => hr (by rw [e]; decide)) (fun e => hr (by rw [e]; decide))]
  · rw [zx1 i a3, x1i i a19]
  · rw [zx1 7 (by decide), x1i 7 (by decide)]; omega
  · exact wr r (fun e => hr (by rw [e]; decide)) (fun e => hr (by rw [e]; decide)) (fun e => hr (by rw [e]; decide))
  · rw [hTk, hjk, htk, zxr 128 (by decide), zxr 62 (by decide), zxr 64 (by decide), zxr 129 (by decide), zx1 19 (by decide), xr 62 (by decide) (by decide) (by decide), xr 128 (by decide) (by decide) (by decide), wr 175 (by decide) (by decide) (by decide), wr 180 (by decide) (by decide) (by decide), wr 187 (by decide) (by decide) (by decide)]
    exact ⟨rfl, rfl, x19, x129, x64, rfl, rfl, rfl, w188, w189, w13⟩
end LB
section LC
variable {b F : Int} {Mx Mq : mm_} {a o : Int}
theorem kk_le {f p : Int} (h : vk_ f p) : kk_ f p ≤ 1000000 := by unfold kk_ vk_ at *; split <;> omega
/-- the numbers may be chosen anew -/
theorem ER_i (i1 i2 : Inhabited gh_) (h : @ER i1 b F Mx Mq a o) (hg : @gg_ i2 = @gg_ i1) (hb : b = 1 → kk_ (Mq 6 13) (Mq 6 14) ≤ @bb_ i2 (Mx 1 19)) : @ER i2 b F Mx Mq a o := by
  obtain ⟨e1, e2, e3, e4, e5, e6, e7, e8, e9, e10, ⟨n1, n2, n3, n4, n5⟩, e12, e13, e14⟩ := h
  refine ⟨e1, e2, e3, e4, e5, e6, e7, e8, e9, e10, ⟨n1, n2, n3, n4, ?_⟩, e12, by rw [hg]; exact e13, e14⟩
  rcases e9 with e | e
  · exact .inl (by rw [e8]; exact e)
  · exact .inr (hb e)
abbrev ih_ (g : Nat) (f : Int → Int) (x y : Int) : Inhabited gh_ := ⟨(g, f, x, y)⟩
theorem ER_i1 (i1 : Inhabited gh_) {x y : Int} (h : @ER i1 b F Mx Mq a o) : @ER (ih_ (@gg_ i1) (fun _ => 1000000) x y) b F Mx Mq a o := ER_i i1 _ h rfl fun _ => kk_le h.2.2.2.2.2.2.2.2.2.2.1.2.1
theorem ER_kk [Inhabited gh_] (h : ER b F Mx Mq a o) (hb : b = 1) : kk_ (Mq 6 13) (Mq 6 14) ≤ bb_ (Mx 1 19) := by
  rcases h.2.2.2.2.2.2.2.2.2.2.1.2.2.2.2 with z | z
  · have := h.2.2.2.2.2.2.2.1; omega
  · exact z
end LC
section LD
variable {d dq : Nat} {b F : Int} {Mx Mq : mm_} {a o me : Int} {Kv : mm_ → Prop} {Qt : qt_}
theorem y_137q [Inhabited gh_] (h : TA b F Mx Mq a o) (hb : b = 1) (hL : LBT b F Mx Mq a) (hk : Mx 70 a = 100) (hk1 : Mx 70 (a + 1) = 258) (h12 : a + 1 < 1200) (htr : 1 ≤ Mx 1 29 ∧ Mx 1 29 ≤ 600) (hj : 0 ≤ Mx 1 19 ∧ Mx 1 19 < Mx 128 (Mx 1 18)) (hja : Mx 62 (10 * Mx 1 18 + Mx 1 19) = a)
    (hK : ∀ Mx' Mq', LBR b F F Mx Mq Mx' Mq' a o me → (∀ (Kv : mm_ → Prop) (Qtq : qt_), Kv Mq' → Tr_ wd0 pg0 (dq + 4) 262 [.inr (.inr 6), .inl me] Mq (rv_ Kv) Qtq) → Kv Mx') :
    Tr_ wd0 pg0 (d + 3) 137 [.inr (.inr 1)] Mx (rv_ Kv) Qt := by
  obtain ⟨t1, t2, t3, t4⟩ := h
  obtain ⟨l1, l2, l3⟩ := id hL
  refine y_137q0 (dq := dq) (me := me) (ih_ gg_ (fun _ => 1000000) 0 0) (fun _ => rfl) ⟨t1, t2, ER_i1 _ t3, t4⟩ hb ⟨l1, l2, fun hb0 => by omega, fun _ k _ _ => .inl (Int.le_refl _)⟩ hk hk1 h12 htr hj hja fun Mx' Mq' hR hkey hrun => hK Mx' Mq' ?_ hrun
  obtain ⟨r1, r2, r3, r4, r5, r6, r7, r8⟩ := hR
  have r8' := r8 hb
  have e18 : Mx' 1 18 = Mx 1 18 := r4.2 18 (by decide) (by decide) (by decide) (by decide) (by decide)
  refine ⟨r1, ER_i _ _ r2 rfl fun _ => ?_, ⟨r3.1, r3.2.1, ?_⟩, r4, r5, r6, r7, r8⟩
  · rw [r8'.2.2.1]
    have k1 := ER_kk t3 hb
    rcases l3.2 hb (Mx 1 19) hj.1 hj.2 with z | ⟨z1, z2⟩
    · omega
    · have := hkey.2 z1
      rw [hja] at z2
      omega
  · unfold LBG at l3 ⊢
    rw [e18, r8'.1, r8'.2.1, r4.1 71 (by decide), r8'.2.2.2.2.2.2.1]
    exact l3
end LD
end T126_lb
section T127_ac
/-! an act that is no decide -/
section AC
variable {d dq n : Nat} {b F F' : Int} {Mx Mq Mx1 Mq1 M : mm_} {a a1 o j p me T : Int} {K : Int → mm_ → Prop} {Kv G : mm_ → Prop} {Qt : qt_} {V : vv_} {dec : Int → Option Int}
theorem y_143a [Inhabited gh_] (hn : n ≤ 12) (ho : o = 12 - (n : Int)) (h : TA b F Mx Mq a o) (hG : GT b F Mx Mq (Mx 71 a)) (hk : Mx 70 a = 100 ∨ (14 ≤ Mx 70 a ∧ Mx 70 a ≤ 17)) (hS : b = 1 → acS (Mx 70) dec o a ≠ none)
    (hK : ∀ MX Mx' Mq' a' w v, SM Mx MX w v → (w = 1 ∨ w = 2 ∨ w = 3 ∨ w = 4 ∨ w = 5) → AR b F MX Mq Mx' Mq' a a' o w v → acS (Mx 70) dec o a = some a' → (∀ (Kv : mm_ → Prop) (Qtq : qt_), Kv Mq' → Tr_ wd0 pg0 (dq + 15) 296 [.inr (.inr 6)] Mq (rv_ Kv) Qtq) → K 0 Mx')
    (hQ : b = 0 → ∀ Mx', XA Mx Mx' → (∀ (Kv : mm_ → Prop) (Qtq : qt_), (∀ M', SQ Mx' Mq M' → Kv M') → Tr_ wd0 pg0 (dq + 15) 296 [.inr (.inr 6)] Mq (rv_ Kv) Qtq) → Qt 8 Mx') :
    Tr_ wd0 pg0 (9 * n + 17) 143 [.inr (.inr 1)] Mx (ri_ K) Qt := by
  have c : Mx 70 a = 100 ∨ Mx 70 a = 14 ∨ Mx 70 a = 15 ∨ Mx 70 a = 16 ∨ Mx 70 a = 17 := by omega
  rcases c with c | c | c | c | c
  · refine Tr_le (d := 9 * n + 16) (by omega) (y_143g (dq := dq) hn ho h c hS (fun Mx' Mq' a' hA hs hq => hK Mx Mx' Mq' a' 1 0 (.inl ⟨rfl, .inl (by decide)⟩) (.inl rfl) hA hs fun Kv Qtq hk => Tr_le (by omega) (hq Kv Qtq hk)) (fun hb Mx' hx hq => hQ hb Mx' hx fun Kv Qtq hk => Tr_le (by omega) (hq Kv Qtq hk)))
  · exact y_143o (dq := dq) hn ho h hG c hS (fun MX Mx' Mq' a' h1 h2 h3 h4 => hK MX Mx' Mq' a' 2 _ h1 (by decide) h2 h3 h4) hQ
  · refine Tr_le (d := 9 * n + 15) (by omega) (y_143s (dq := dq) hn ho h c hS (fun Mx' Mq' a' hA hs hq => hK Mx Mx' Mq' a' 3 0 (.inl ⟨rfl, .inl (by decide)⟩) (by decide) hA hs fun Kv Qtq hk => Tr_le (by omega) (hq Kv Qtq hk)) (fun hb Mx' hx hq => hQ hb Mx' hx fun Kv Qtq hk => Tr_le (by omega) (hq Kv Qtq hk)))
  · refine Tr_le (d := 9 * n + 15) (by omega) (y_143r (dq := dq) hn ho h c hS (fun Mx' Mq' a' hA hs hq => hK Mx Mx' Mq' a' 4 0 (.inl ⟨rfl, .inl (by decide)⟩) (by decide) hA hs fun Kv Qtq hk => Tr_le (by omega) (hq Kv Qtq hk)) (fun hb Mx' hx hq => hQ hb Mx' hx fun Kv Qtq hk => Tr_le (by omega) (hq Kv Qtq hk)))
  · exact y_143c (dq := dq) hn ho h hG c hS (fun MX Mx' Mq' a' h1 h2 h3 h4 => hK MX Mx' Mq' a' 5 _ h1 (by decide) h2 h3 h4) hQ
/-- a last -/
theorem y_140a [Inhabited gh_] (h : TA b F Mx Mq a o) (h9 : lbl9 Mx Mq) (hs9 : stt9 Mx Mq) (htr : 1 ≤ Mx 1 29 ∧ Mx 1 29 ≤ 600) (hm : 0 ≤ me ∧ me < 1300) (hst : b = 1 → (Mx 66 (Mx 1 29 - 1) = -1 ↔ Mq 215 me ≠ 0)) (hk : 11 ≤ Mx 70 a ∧ Mx 70 a ≤ 13) (hS : b = 1 → laS (Mx 70) a ≠ none)
    (hK : ∀ MX MQ Mx' Mq' a' w, LM b Mx Mq me MX MQ → (w = 8 ∨ w = 9 ∨ w = 10) → AR b F MX MQ Mx' Mq' a a' o w 0 → laS (Mx 70) a = some a' → (∀ (Kv : mm_ → Prop) (Qtq : qt_), Kv Mq' → Tr_ wd0 pg0 (dq + 6) 264 [.inr (.inr 6), .inl me] Mq (rv_ Kv) Qtq) → Kv Mx')
    (hQ : b = 0 → ∀ Mx', XA Mx Mx' → (∀ (Kv : mm_ → Prop) (Qtq : qt_), (∀ M', SQ Mx' Mq M' → Kv M') → Tr_ wd0 pg0 (dq + 6) 264 [.inr (.inr 6), .inl me] Mq (rv_ Kv) Qtq) → Qt 8 Mx') : Tr_ wd0 pg0 (d + 8) 140 [.inr (.inr 1)] Mx (rv_ Kv) Qt := by
  have c : Mx 70 a = 11 ∨ Mx 70 a = 12 ∨ Mx 70 a = 13 := by omega
  rcases c with c | c | c
  · exact y_140n (dq := dq) h hs9 htr hm hst c hS (fun MX MQ Mx' Mq' a' h1 h2 h3 h4 => hK MX MQ Mx' Mq' a' 8 h1 (by decide) h2 h3 h4) hQ
  · exact y_140s (dq := dq) (d := d + 1) h c hS (fun MX MQ Mx' Mq' a' h1 h2 h3 h4 => hK MX MQ Mx' Mq' a' 9 h1 (by decide) h2 h3 h4) hQ
  · exact y_140j (dq := dq) (d := d + 1) h h9 htr hm c hS (fun MX MQ Mx' Mq' a' h1 h2 h3 h4 => hK MX MQ Mx' Mq' a' 10 h1 (by decide) h2 h3 h4) hQ
/-- a label that has no room: X -/
theorem y_137z [Inhabited gh_] (h : TA b F Mx Mq a o) (hb : b = 0) (hL : LBT b F Mx Mq a) (hk : Mx 70 a = 100) (h12 : a = 1200) (hQ : ∀ Mx', XA Mx Mx' → Mx' 1 4 = 2 → (Mx' 1 5 = Mx 71 a ∧ 0 ≤ Mx' 1 7 ∧ Mx' 1 7 ≤ 1000001000 - (gg_ : Int)) → Qt 8 Mx') : Tr_ wd0 pg0 (d + 3) 137 [.inr (.inr 1)] Mx (rv_ Kv) Qt := by
  obtain ⟨hT, hVT, hE, h75, h104, h53⟩ := h
  have e3 := hE.2.1
  have h8 : Mx 1 8 = 0 := by rw [hE.2.2.2.2.2.2.1]; exact hb
  have hga := hE.1
  have hpa := tk_p hT hga
  have hl9 := hL.1
  have hT0 : 0 ≤ Mx 1 18 ∧ Mx 1 18 < 6 := ⟨hVT.2.2.1, hVT.2.2.2.1⟩
  have hc := hl9.1
  have ha12 : 0 ≤ a ∧ a < 1202 := by omega
  have i10 : w32 (w32 (10 * Mx 1 18) + Mx 128 (Mx 1 18)) = 10 * Mx 1 18 + Mx 128 (Mx 1 18) := by rw [w32_id (x := 10 * Mx 1 18) (by omega) (by omega), w32_id (by omega) (by omega)]
  refine t_137 fun V hV hW => b_137_0 (Tr_mono _) hV hW Mx ?_
  intro _
  rw [if_pos h8, e3]
  refine ⟨hVT.1, hT0, ?_⟩
  by_cases c10 : Mx 128 (Mx 1 18) = 10
  · rw [if_pos c10]
    exact x_110 ha12.1 ha12.2 (fun e => absurd e (by decide)) (fun _ => hQ _ (XF_XA fl_XF) fl_4 ⟨fl_5, fl_b7 hE⟩)
  rw [if_neg c10]
  refine x_110 ha12.1 ha12.2 (fun _ => ?_) (fun e => absurd rfl e)
  refine b_137_41 (Tr_mono _) hV hW _ _ _ ?_
  refine x_113R hT hVT hl9 ⟨hga, hk⟩ ?_
  have fin : ∀ M1 : mm_, XF Mx M1 → (∀ i : Int, i ≠ 4 → i ≠ 5 → i ≠ 7 → M1 1 i = Mx 1 i) → (Mx 1 7 ≤ M1 1 7 ∧ M1 1 7 ≤ Mx 1 7 + 1) → V 68 [rr 1, ii a, ii (Mx 128 (Mx 1 18))] [] M1 := by
    intro M1 hx hi h7
    refine b_137_68 (Tr_mono _) hV hW _ _ _ ?_
    rw [hi 18 (by decide) (by decide) (by decide), hi 2 (by decide) (by decide) (by decide), i10]
    have r70 : ∀ r : Nat, r ≠ 1 → r ≠ 5 → r ≠ 142 → M1 r = Mx r := fun r a b c => XF_70 hx a b c
    refine ⟨by omega, hVT.1, hT0, hT0, ?_⟩
    refine x_105 ?_ (fun h => ?_) (fun _ => ?_)
    · unfold iX_; rw [up_ne (by decide), up_ne (by decide), hi 3 (by decide) (by decide) (by decide), e3]; omega
    · rw [up_ne (by decide), up_ne (by decide), hi 3 (by decide) (by decide) (by decide)] at h; omega
    · rw [up_ne (by decide), up_ne (by decide), hi 3 (by decide) (by decide) (by decide), e3]
      refine hQ _ (XA_tr (XF_XA hx) (XA_tr (XA_tr (XA_ur (by decide) (by decide) (by decide)) (XA_ur (by decide) (by decide) (by decide))) (XF_XA fl_XF))) fl_4 ⟨?_, ?_⟩
      · rw [fl_5, up_ne (by decide), up_ne (by decide), r70 71 (by decide) (by decide) (by decide)]
      · rw [fl_7, up_ne (by decide), up_ne (by decide)]
        have := hE.2.2.2.2.2.2.2.2.2.2.2.2.1
        have := hE.2.2.2.2.2.2.2.2.2.2.2.1
        omega
  by_cases c : lbl Mq (Mq 151 a) = -1
  · rw [if_pos c]; exact fin _ XF_rf (fun _ _ _ _ => rfl) (by omega)
  · rw [if_neg c]; exact x_116 ha12.1 ha12.2 (ER_fl hE).1 (ER_fl hE).2 (fin _ nt1_XF (fun i a b c => nt1_1 a b c) (by rw [nt1_7]; omega))
/-- once Q has stopped within a trans -/
theorem q_260s77 [Inhabited gh_] {Mx' : mm_} {x1 x2 x3 x4 x5 : Int} (hV : Cl_ wd0 (Tr_ wd0 pg0 (d + 1)) V (rv_ Kv) Qt m_260) (hW : Wk_ V) (hs : SQ Mx' Mq M) (h : ∀ M', SQ Mx' Mq M' → Kv M') : V 77 [rr 6, ii x1, ii x2, ii x3, ii x4, ii x5, none] [] M := by
  have h16 : M 6 16 = 0 := hs.1.2
  have e : nt_ M 6 (M 150 (M 6 12)) = M := by unfold nt_; rw [if_pos h16]
  have fin : bl_ (M 6 103) → (if M 6 103 = 0 then (0 ≤ M 6 12 ∧ M 6 12 < 1202) ∧ Tr_ wd0 pg0 (d + 1) 236 [.inr (.inr 6), .inl 6, .inl (M 150 (M 6 12))] M (rv_ fun M1 => rv_ Kv [] M1) Qt else rv_ Kv [] M) := by
    intro _
    by_cases c : M 6 103 = 0
    · rw [if_pos c]; exact ⟨hs.2.1, q_236 (by rw [e]; exact rv_i (h _ hs))⟩
    · rw [if_neg c]; exact rv_i (h _ hs)
  refine b_260_77 (Tr_mono _) hV hW _ _ _ _ _ _ ?_
  by_cases c : x5 = 0
  · rw [if_pos c]; exact fin
  · rw [if_neg c]
    refine q_227s hs.1 ?_
    rw [if_neg (by decide)]; exact fin
theorem q_260s122 [Inhabited gh_] {Mx' : mm_} {x1 x2 x3 x4 x5 x6 : Int} (hV : Cl_ wd0 (Tr_ wd0 pg0 (d + 1)) V (rv_ Kv) Qt m_260) (hW : Wk_ V) (hs : SQ Mx' Mq M) (h : ∀ M', SQ Mx' Mq M' → Kv M') : V 122 [rr 6, ii x1, ii x2, ii x3, ii x4, ii x5, ii x6] [] M := by
  refine b_260_122 (Tr_mono _) hV hW _ _ _ _ _ _ _ (q_227s hs.1 ?_)
  rw [if_neg (by decide)]
  exact rv_i (h _ hs)
theorem q_260s92 [Inhabited gh_] {Mx' : mm_} {x1 x2 x3 x4 x5 x6 : Int} (hV : Cl_ wd0 (Tr_ wd0 pg0 (d + 1)) V (rv_ Kv) Qt m_260) (hW : Wk_ V) (hs : SQ Mx' Mq M) (h : ∀ M', SQ Mx' Mq M' → Kv M') : V 92 [rr 6, ii x1, ii x2, ii x3, ii x4, ii x5, ii x6] [] M := by
  refine b_260_92 (Tr_mono _) hV hW _ _ _ _ _ _ _ ?_
  by_cases c : x4 = 0
  · rw [if_pos c]
    refine q_227s hs.1 ?_
    rw [if_neg (by decide)]
    exact q_260s122 hV hW hs h
  · rw [if_neg c]
    exact q_260s122 hV hW hs h
end AC
end T127_ac
section T128_sy
/-! where parts and decides end, and how many labels they have -/
abbrev sj_ : Type := Int × Int
def lk9 {σ ρ : Type} (k : σ → Option ρ) : σ ⊕ ρ → Option ρ
  | .inl s => k s
  | .inr a => some a
def lqS {σ ρ : Type} (step : σ → Option (σ ⊕ ρ)) : Nat → σ → Option ρ
  | 0, _ => none
  | n + 1, s => (step s).bind (lk9 (lqS step n))
def LQ {σ ρ : Type} (step : σ → Option (σ ⊕ ρ)) (s : σ) : Option ρ := lqS step 1300 s
theorem lqS_in [Inhabited gh_] {σ ρ : Type} {step : σ → Option (σ ⊕ ρ)} (π : σ → Int) (h : ∀ s s', 0 ≤ π s → π s ≤ 1200 → step s = some (.inl s') → π s + 1 ≤ π s' ∧ π s' ≤ 1200) : ∀ (n m : Nat) (s : σ), 0 ≤ π s → π s ≤ 1200 → 1201 - π s ≤ n → 1201 - π s ≤ m → lqS step n s = lqS step m s
  | 0, _, s, _, _, _, _ => by omega
  | _ + 1, 0, s, _, _, _, _ => by omega
  | n + 1, m + 1, s, h0, h1, h2, h3 => by
    unfold lqS
    cases hs : step s with
    | none => rfl
    | some r =>
      cases r with
      | inr a => rfl
      | inl s' =>
        have := h s s' h0 h1 hs
        exact lqS_in π h n m s' (by omega) (by omega) (by omega) (by omega)
theorem LQ_u [Inhabited gh_] {σ ρ : Type} {step : σ → Option (σ ⊕ ρ)} (π : σ → Int) (h : ∀ s s', 0 ≤ π s → π s ≤ 1200 → step s = some (.inl s') → π s + 1 ≤ π s' ∧ π s' ≤ 1200) {s : σ} (h0 : 0 ≤ π s) (h1 : π s ≤ 1200) : LQ step s = (step s).bind (lk9 (LQ step)) := by
  unfold LQ
  rw [lqS_in π h 1300 1301 s h0 h1 (by omega) (by omega)]
  rfl
theorem lqS_r [Inhabited gh_] {σ ρ : Type} {step : σ → Option (σ ⊕ ρ)} (π : σ → Int) (π' : ρ → Int) (h : ∀ s s', 0 ≤ π s → π s ≤ 1200 → step s = some (.inl s') → π s + 1 ≤ π s' ∧ π s' ≤ 1200) (h' : ∀ s a, 0 ≤ π s → π s ≤ 1200 → step s = some (.inr a) → π s ≤ π' a ∧ π' a ≤ 1200) : ∀ (n : Nat) (s : σ) (a : ρ), 0 ≤ π s → π s ≤ 1200 → lqS step n s = some a → π s ≤ π' a ∧ π' a ≤ 1200
  | 0, s, a, _, _, e => by cases e
  | n + 1, s, a, h0, h1, e => by
    unfold lqS at e
    cases hs : step s with
    | none => rw [hs] at e; cases e
    | some r =>
      rw [hs] at e
      cases r with
      | inr a' => cases e; exact h' s _ h0 h1 hs
      | inl s' =>
        have := h s s' h0 h1 hs
        have := lqS_r π π' h h' n s' a (by omega) (by omega) e
        omega
def jc_ (g : sj_ → Option sj_) : Prop := ∀ s r, 0 ≤ s.1 → s.1 ≤ 1200 → g s = some r → s.1 + 1 ≤ r.1 ∧ r.1 ≤ 1200
def jw_ (g : sj_ → Option sj_) : Prop := ∀ s r, 0 ≤ s.1 → s.1 ≤ 1200 → g s = some r → s.1 ≤ r.1 ∧ r.1 ≤ 1200
def dcT1 (κ : Int → Int) (pt : sj_ → Option sj_) (s : sj_ × Int) : Option ((sj_ × Int) ⊕ sj_) :=
  if s.2 = 8 then none else (rgS κ s.1.1).bind fun a1 => if κ a1 = 244 then (gS a1).bind fun a2 => some (.inl ((a2, s.1.2), s.2 + 1)) else (tS κ 258 a1).bind fun a2 => (pt (a2, s.1.2)).bind fun s3 => if isR κ s3.1 then some (.inl (s3, s.2 + 1)) else some (.inr s3)
def elT (κ : Int → Int) (pt : sj_ → Option sj_) (s : sj_) : Option sj_ := (if κ s.1 = 19 then (gS s.1).bind fun a1 => (tS κ 258 a1).bind fun a2 => pt (a2, s.2) else some s).bind fun s2 => (tS κ 20 s2.1).bind fun a3 => some (a3, s2.2)
def dcT (κ : Int → Int) (pt : sj_ → Option sj_) (o : Int) (s : sj_) : Option sj_ :=
  if o = 12 then none else (gS s.1).bind fun a1 => (ES κ 0 (o + 1) a1).bind fun a2 => (tS κ 259 a2).bind fun a3 => (LQ (dcT1 κ pt) ((a3, s.2), 0)).bind (elT κ pt)
def nxT (κ : Int → Int) (s : sj_) : Option (sj_ ⊕ sj_) := if isA κ s.1 ∨ isL κ s.1 then some (.inl s) else some (.inr s)
def ptT1 (κ : Int → Int) (lm : Int → Int → Bool) (dec : sj_ → Option sj_) (o : Int) (s : sj_) : Option (sj_ ⊕ sj_) :=
  if isN κ s.1 then (if lm s.2 s.1 then (gS s.1).bind fun a1 => (gS a1).bind fun a2 => some (.inl (a2, s.2 + 1)) else none)
  else if isL κ s.1 then (laS κ s.1).bind fun a1 => some (.inr (a1, s.2))
  else if κ s.1 = 18 then (dec s).bind fun s1 => (tS κ 259 s1.1).bind fun a2 => nxT κ (a2, s1.2)
  else if isA κ s.1 then (acS κ (fun _ => none) o s.1).bind fun a1 => nxT κ (a1, s.2)
  else none
def ptT (κ : Int → Int) (lm : Int → Int → Bool) (dec : sj_ → Option sj_) (o : Int) (s : sj_) : Option sj_ := if isA κ s.1 ∨ isL κ s.1 then LQ (ptT1 κ lm dec o) s else some s
def PTj (κ : Int → Int) (lm : Int → Int → Bool) : Nat → sj_ → Option sj_
  | 0 => ptT κ lm (dcT κ (fun _ => none) 12) 12
  | n + 1 => ptT κ lm (dcT κ (PTj κ lm n) (11 - (n : Int))) (11 - (n : Int))
def DCj (κ : Int → Int) (lm : Int → Int → Bool) : Nat → sj_ → Option sj_
  | 0 => dcT κ (fun _ => none) 12
  | n + 1 => dcT κ (PTj κ lm n) (11 - (n : Int))
section SJ
variable {κ : Int → Int} {lm : Int → Int → Bool} {o a : Int} {dec pt : sj_ → Option sj_} {s s' : sj_}
theorem PTj_e [Inhabited gh_] (n : Nat) : PTj κ lm n = ptT κ lm (DCj κ lm n) (12 - (n : Int)) := by
  cases n with
  | zero => rfl
  | succ n =>
    have e : (12 : Int) - ((n + 1 : Nat) : Int) = 11 - (n : Int) := by omega
    rw [e]; rfl
theorem dcT1_l [Inhabited gh_] (hp : jw_ pt) (s s' : sj_ × Int) (h0 : 0 ≤ s.1.1) (h1 : s.1.1 ≤ 1200) (h : dcT1 κ pt s = some (.inl s')) : s.1.1 + 1 ≤ s'.1.1 ∧ s'.1.1 ≤ 1200 := by
  unfold dcT1 at h
  split at h
  · cases h
  · cases hg : rgS κ s.1.1 with
    | none => rw [hg] at h; cases h
    | some a1 =>
      rw [hg] at h; simp only [Option.bind_some] at h
      have e1 := inc_rg _ _ h0 h1 hg
      split at h
      · cases ht : gS a1 with
        | none => rw [ht] at h; cases h
        | some a2 => rw [ht] at h; cases h; have e3 := gS_s ht; simp only []; omega
      · cases ht : tS κ 258 a1 with
        | none => rw [ht] at h; cases h
        | some a2 =>
          rw [ht] at h; simp only [Option.bind_some] at h
          have e3 := tS_s ht
          cases hq : pt (a2, s.1.2) with
          | none => rw [hq] at h; cases h
          | some a3 =>
            rw [hq] at h; simp only [Option.bind_some] at h
            have e4 := hp (a2, s.1.2) a3 (by simp only []; omega) (by simp only []; omega) hq
            simp only [] at e4
            split at h
            · cases h; simp only []; omega
            · cases h
theorem dcT1_r [Inhabited gh_] (hp : jw_ pt) (s : sj_ × Int) (r : sj_) (h0 : 0 ≤ s.1.1) (h1 : s.1.1 ≤ 1200) (h : dcT1 κ pt s = some (.inr r)) : s.1.1 + 1 ≤ r.1 ∧ r.1 ≤ 1200 := by
  unfold dcT1 at h
  split at h
  · cases h
  · cases hg : rgS κ s.1.1 with
    | none => rw [hg] at h; cases h
    | some a1 =>
      rw [hg] at h; simp only [Option.bind_some] at h
      have e1 := inc_rg _ _ h0 h1 hg
      split at h
      · cases ht : gS a1 with
        | none => rw [ht] at h; cases h
        | some a2 => rw [ht] at h; cases h
      · cases ht : tS κ 258 a1 with
        | none => rw [ht] at h; cases h
        | some a2 =>
          rw [ht] at h; simp only [Option.bind_some] at h
          have e3 := tS_s ht
          cases hq : pt (a2, s.1.2) with
          | none => rw [hq] at h; cases h
          | some a3 =>
            rw [hq] at h; simp only [Option.bind_some] at h
            have e4 := hp (a2, s.1.2) a3 (by simp only []; omega) (by simp only []; omega) hq
            simp only [] at e4
            split at h
            · cases h
            · cases h; omega
theorem dcT_u [Inhabited gh_] (hp : jw_ pt) {s : sj_ × Int} (h0 : 0 ≤ s.1.1) (h1 : s.1.1 ≤ 1200) : LQ (dcT1 κ pt) s = (dcT1 κ pt s).bind (lk9 (LQ (dcT1 κ pt))) := LQ_u (step := dcT1 κ pt) (fun s => s.1.1) (fun s s' => dcT1_l hp s s') h0 h1
theorem jw_el [Inhabited gh_] (hp : jw_ pt) : jw_ (elT κ pt) := fun s r h0 h1 e => by
  unfold elT at e
  have fin : ∀ s2 : sj_, s.1 ≤ s2.1 → s2.1 ≤ 1200 → ((tS κ 20 s2.1).bind fun a3 => some (a3, s2.2)) = some r → s.1 ≤ r.1 ∧ r.1 ≤ 1200 := by
    intro s2 g1 g2 g3
    cases ht : tS κ 20 s2.1 with
    | none => rw [ht] at g3; cases g3
    | some a3 => rw [ht] at g3; cases g3; have := tS_s ht; simp only []; omega
  split at e
  · cases hg : gS s.1 with
    | none => rw [hg] at e; cases e
    | some a1 =>
      rw [hg] at e; simp only [Option.bind_some] at e
      have e1 := gS_s hg
      cases ht : tS κ 258 a1 with
      | none => rw [ht] at e; cases e
      | some a2 =>
        rw [ht] at e; simp only [Option.bind_some] at e
        have e2 := tS_s ht
        cases hq : pt (a2, s.2) with
        | none => rw [hq] at e; cases e
        | some s2 =>
          rw [hq] at e; simp only [Option.bind_some] at e
          have e3 := hp (a2, s.2) s2 (by simp only []; omega) (by simp only []; omega) hq
          simp only [] at e3
          exact fin s2 (by omega) (by omega) e
  · simp only [Option.bind_some] at e
    exact fin s (by omega) h1 e
theorem jc_dc [Inhabited gh_] (hp : jw_ pt) : jc_ (dcT κ pt o) := fun s r h0 h1 e => by
  unfold dcT at e
  split at e
  · cases e
  · cases hg : gS s.1 with
    | none => rw [hg] at e; cases e
    | some a1 =>
      rw [hg] at e; simp only [Option.bind_some] at e
      have e1 := gS_s hg
      cases he : ES κ 0 (o + 1) a1 with
      | none => rw [he] at e; cases e
      | some a2 =>
        rw [he] at e; simp only [Option.bind_some] at e
        have e2 := ES_gt (by omega) he (by omega)
        cases ht : tS κ 259 a2 with
        | none => rw [ht] at e; cases e
        | some a3 =>
          rw [ht] at e; simp only [Option.bind_some] at e
          have e3 := tS_s ht
          generalize hl : LQ (dcT1 κ pt) ((a3, s.2), 0) = L at e
          cases L with
          | none => cases e
          | some s4 =>
            simp only [Option.bind_some] at e
            have e4 := lqS_r (step := dcT1 κ pt) (fun s => s.1.1) (fun s => s.1) (fun s s' => dcT1_l hp s s') (fun s r h0 h1 h => by have := dcT1_r hp s r h0 h1 h; omega) 1300 ((a3, s.2), 0) s4 (by simp only []; omega) (by simp only []; omega) hl
            simp only [] at e4
            have e5 := jw_el hp s4 r (by omega) (by omega) e
            omega
theorem nxT_l [Inhabited gh_] (h : nxT κ s = some (.inl s')) : s' = s := by
  unfold nxT at h; split at h
  · cases h; rfl
  · cases h
theorem nxT_r [Inhabited gh_] (h : nxT κ s = some (.inr s')) : s' = s := by
  unfold nxT at h; split at h
  · cases h
  · cases h; rfl
theorem ptT1_b [Inhabited gh_] (hp : jc_ dec) (s : sj_) (r : sj_ ⊕ sj_) (h0 : 0 ≤ s.1) (h1 : s.1 ≤ 1200) (h : ptT1 κ lm dec o s = some r) : ∀ s', (r = .inl s' ∨ r = .inr s') → s.1 + 1 ≤ s'.1 ∧ s'.1 ≤ 1200 := by
  intro s' hr
  have nx : ∀ t : sj_, s.1 + 1 ≤ t.1 → t.1 ≤ 1200 → nxT κ t = some r → s.1 + 1 ≤ s'.1 ∧ s'.1 ≤ 1200 := by
    intro t g1 g2 g3
    rcases hr with e | e
    · rw [e] at g3; rw [nxT_l g3]; exact ⟨g1, g2⟩
    · rw [e] at g3; rw [nxT_r g3]; exact ⟨g1, g2⟩
  unfold ptT1 at h
  split at h
  · split at h
    · cases hg : gS s.1 with
      | none => rw [hg] at h; cases h
      | some a1 =>
        rw [hg] at h; simp only [Option.bind_some] at h
        have e1 := gS_s hg
        cases ht : gS a1 with
        | none => rw [ht] at h; cases h
        | some a2 =>
          rw [ht] at h; cases h; have e3 := gS_s ht
          rcases hr with e | e <;> cases e
          simp only []; omega
    · cases h
  · split at h
    · cases hg : laS κ s.1 with
      | none => rw [hg] at h; cases h
      | some a1 =>
        rw [hg] at h; cases h
        have e1 := inc_la _ _ h0 h1 hg
        rcases hr with e | e <;> cases e
        simp only []; omega
    · split at h
      · cases hg : dec s with
        | none => rw [hg] at h; cases h
        | some s1 =>
          rw [hg] at h; simp only [Option.bind_some] at h
          have e1 := hp s s1 h0 h1 hg
          cases ht : tS κ 259 s1.1 with
          | none => rw [ht] at h; cases h
          | some a2 =>
            rw [ht] at h; simp only [Option.bind_some] at h
            have e2 := tS_s ht
            exact nx (a2, s1.2) (by simp only []; omega) (by simp only []; omega) h
      · split at h
        · cases hg : acS κ (fun _ => none) o s.1 with
          | none => rw [hg] at h; cases h
          | some a1 =>
            rw [hg] at h; simp only [Option.bind_some] at h
            have e1 := inc_ac inc_n _ _ h0 h1 hg
            exact nx (a1, s.2) (by simp only []; omega) (by simp only []; omega) h
        · cases h
theorem ptT_u [Inhabited gh_] (hp : jc_ dec) (h0 : 0 ≤ s.1) (h1 : s.1 ≤ 1200) : LQ (ptT1 κ lm dec o) s = (ptT1 κ lm dec o s).bind (lk9 (LQ (ptT1 κ lm dec o))) := LQ_u (step := ptT1 κ lm dec o) (fun s => s.1) (fun s s' a b h => ptT1_b hp s _ a b h s' (.inl rfl)) h0 h1
theorem jw_pt [Inhabited gh_] (hp : jc_ dec) : jw_ (ptT κ lm dec o) := fun s r h0 h1 e => by
  unfold ptT at e
  split at e
  · exact lqS_r (step := ptT1 κ lm dec o) (fun s => s.1) (fun s => s.1) (fun s s' a b h => ptT1_b hp s _ a b h s' (.inl rfl)) (fun s r h0 h1 h => by have := ptT1_b hp s _ h0 h1 h r (.inr rfl); omega) 1300 s r h0 h1 e
  · cases e; omega
theorem jw_n [Inhabited gh_] : jw_ (fun _ => none) := fun s r _ _ e => by cases e
theorem jw_PTj [Inhabited gh_] : ∀ n, jw_ (PTj κ lm n) ∧ jc_ (DCj κ lm n)
  | 0 => ⟨jw_pt (jc_dc jw_n), jc_dc jw_n⟩
  | n + 1 => ⟨jw_pt (jc_dc (jw_PTj n).1), jc_dc (jw_PTj n).1⟩
end SJ
end T128_sy

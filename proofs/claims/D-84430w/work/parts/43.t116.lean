section T116_va
/-! values: the loop -/
/-- Q's choice of a sort -/
def F21 (V : vv_) (x1 x2 x3 x4 x5 : Int) (M2 : mm_) : Prop :=
     (if x3 ≤ x5 then
      V 88 [rr 6, ii x1, ii x2, ii x3, ii x4, ii x5, ii 1, ii 0, none] [] M2
     else
      (if x2 < (-1) then
       (0 ≤ w32 ((w32 (8 * (w32 (((-2)) - x2)))) + x5) ∧ w32 ((w32 (8 * (w32 (((-2)) - x2)))) + x5) < 48) ∧
        V 88 [rr 6, ii x1, ii x2, ii x3, ii x4, ii x5, ii 1, ii (M2 182 (w32 ((w32 (8 * (w32 (((-2)) - x2)))) + x5))), none] [] M2
      else
       (0 ≤ w32 (x2 + x5) ∧ w32 (x2 + x5) < 60) ∧
        V 88 [rr 6, ii x1, ii x2, ii x3, ii x4, ii x5, ii 1, ii (M2 157 (w32 (x2 + x5))), none] [] M2))
/-- what values leave of Q -/
def qvL : List Nat := [6, 209, 210, 227, 228, 229, 230, 231, 232, 233, 234]
def qvI : List Int := [12, 13, 14, 15, 104, 107, 108, 109, 112, 116, 118]
def QV (b : Int) (M M' : mm_) : Prop := Fr_ qvL M M' ∧ (∀ i : Int, i ∉ qvI → M' 6 i = M 6 i) ∧ (b = 1 → M' 6 13 = 0 → M 6 13 = 0)
theorem QV_rf [Inhabited gh_] {b : Int} {M : mm_} : QV b M M := ⟨Fr_rf, fun _ _ => rfl, fun _ h => h⟩
theorem QV_tr [Inhabited gh_] {b : Int} {M M1 M2 : mm_} (h1 : QV b M M1) (h2 : QV b M1 M2) : QV b M M2 := ⟨Fr_tr h1.1 h2.1, fun i a => (h2.2.1 i a).trans (h1.2.1 i a), fun hb h => h1.2.2 hb (h2.2.2 hb h)⟩
theorem QG_QV [Inhabited gh_] {b : Int} {M M' : mm_} (h : QG M M') (h13 : b = 1 → M' 6 13 = 0 → M 6 13 = 0) : QV b M M' := ⟨Fr_sub h.1 (by decide), fun i hi => h.2 i (nm_i hi (by decide)) (nm_i hi (by decide)) (nm_i hi (by decide)) (nm_i hi (by decide)) (nm_i hi (by decide)) (nm_i hi (by decide)) (nm_i hi (by decide)) (nm_i hi (by decide)) (nm_i hi (by decide)) (nm_i hi (by decide)) (nm_i hi (by decide)), h13⟩
theorem QV_nx [Inhabited gh_] {b : Int} {M : mm_} : QV b M (nx_ M) := QG_QV (QG_QF nx_QF) (fun _ h => by rw [nx_6 (by decide)] at h; exact h)
theorem QV_9 [Inhabited gh_] {b : Int} {M : mm_} {i v : Int} : QV b M (up_ M 209 i v) := ⟨Fr_up Fr_rf (by decide), fun j _ => by rw [up_ne (by decide)], fun _ h => by rw [up_ne (by decide)] at h; exact h⟩
theorem QV_10 [Inhabited gh_] {b : Int} {M : mm_} {i v : Int} : QV b M (up_ M 210 i v) := ⟨Fr_up Fr_rf (by decide), fun j _ => by rw [up_ne (by decide)], fun _ h => by rw [up_ne (by decide)] at h; exact h⟩
theorem QV_15 [Inhabited gh_] {b : Int} {M : mm_} {v : Int} : QV b M (up_ M 6 15 v) := ⟨Fr_up Fr_rf (by decide), fun j hj => by rw [up_off (nm_i hj (by decide))], fun _ h => by rw [up_off (by decide)] at h; exact h⟩
theorem QV_QC [Inhabited gh_] {b : Int} {M M' : mm_} (h : QV b M M') : QC M M' := ⟨Fr_sub h.1 (by decide), fun i hi => h.2.1 i (fun e => hi (by revert e; unfold qvI qcI; simp only [List.mem_cons, List.not_mem_nil, or_false]; omega))⟩
section VL
variable {d dq n : Nat} {b F : Int} {Mx Mq Mx1 Mq1 Mx2 Mq2 M : mm_} {a a1 o o1 s z : Int} {K : Int → mm_ → Prop} {Kv G : mm_ → Prop} {Qt : qt_} {V : vv_}
theorem vS_n [Inhabited gh_] {κ : Int → Int} {o a2 j : Int} (h0 : 0 ≤ a2) (h1 : a2 ≤ 1200) (h : gS a2 = none) : LPz (vS1 κ o) (a2, j) = none := by
  have e := vS_u (κ := κ) (o := o) (s := (a2, j)) h0 h1
  have e2 : vS1 κ o (a2, j) = none := by
    unfold vS1
    simp only [h, Option.bind_none]
  rw [e2, Option.bind_none] at e
  exact e
theorem vS_3 [Inhabited gh_] {κ : Int → Int} {o a2 : Int} (h0 : 0 ≤ a2) (h1 : a2 ≤ 1200) : LPz (vS1 κ o) (a2, 3) = none := by
  have e := vS_u (κ := κ) (o := o) (s := (a2, 3)) h0 h1
  have e2 : vS1 κ o (a2, 3) = none := by
    unfold vS1
    cases gS a2 with
    | none => simp only [Option.bind_none]
    | some a3 => simp only [Option.bind_some, if_true]
  rw [e2, Option.bind_none] at e
  exact e
theorem vS_ey [Inhabited gh_] {κ : Int → Int} {o a2 j : Int} (h12 : a2 < 1200) (hj : j ≠ 3) {L : Int × Int → Option Int} {X : Option Int} (hX : ES κ 0 (o + 1) (a2 + 1) = X) : (vS1 κ o (a2, j)).bind (lk8_ L) = X.bind fun a3 => if κ a3 = 244 then L (a3, j + 1) else tS κ 241 a3 := by
  have e2 : vS1 κ o (a2, j) = X.bind fun a2 => if κ a2 = 244 then some (.inl (a2, j + 1)) else (tS κ 241 a2).bind fun a3 => some (.inr a3) := by
    unfold vS1
    rw [← hX]
    simp only [gS_e h12, Option.bind_some, if_neg hj]
  rw [e2]
  clear e2 hX
  cases X with
  | none => rfl
  | some a3 =>
    rw [Option.bind_some, Option.bind_some]
    by_cases c : κ a3 = 244
    · rw [if_pos c, if_pos c]; rfl
    · rw [if_neg c, if_neg c]
      cases tS κ 241 a3 with
      | none => rfl
      | some a4 => rfl
theorem vS_e [Inhabited gh_] {κ : Int → Int} {o a2 j : Int} (h0 : 0 ≤ a2) (hj : j ≠ 3) (h12 : a2 < 1200) : LPz (vS1 κ o) (a2, j) = (ES κ 0 (o + 1) (a2 + 1)).bind fun a3 => if κ a3 = 244 then LPz (vS1 κ o) (a3, j + 1) else tS κ 241 a3 := (vS_u (κ := κ) (o := o) (s := (a2, j)) h0 (Int.le_of_lt h12)).trans (vS_ey h12 hj rfl)
theorem AM_u9 [Inhabited gh_] {v i : Int} (h : AM b F Mx Mq Mx1 Mq1 a a1 o1 s z) (hi : 3 * Mq 6 75 ≤ i) : AM b F Mx Mq Mx1 (up_ Mq1 209 i v) a a1 o1 s z :=
  AM_q h (QC_ur (by decide) (by decide)) (fun j _ => by rw [up_ne (by decide)]) ⟨up_ne (by decide), up_ne (by decide)⟩ (fun r j hr _ _ => by rw [up_ne (fun e => absurd hr (by rw [e]; decide))]) (fun j _ y => up_off (by omega))
/-- Q's values, once stopped -/
theorem q_298s [Inhabited gh_] {x1 x2 x3 x4 x5 x6 : Int} (hV : Cl_ wd0 (Tr_ wd0 pg0 (d + 4)) V (rv_ Kv) Qt m_298) (hW : Wk_ V) (hs : sp_ M) (h : Kv M) : V 21 [rr 6, ii x1, ii x2, ii x3, ii x4, ii x5, ii x6, none, none] [] M := by
  have fin : V 137 [rr 6, ii x1, ii x2, ii x3, ii x4, ii x5, none, none, none] [] M := b_298_137 (Tr_mono _) hV hW _ _ _ _ _ M (by
    refine q_227s hs ?_
    rw [if_neg (by decide)]
    exact rv_i h)
  refine b_298_21 (Tr_mono _) hV hW _ _ _ _ _ _ M ?_
  by_cases c : x6 = 0
  · rw [if_pos c]; exact q_243s hs fin
  · rw [if_neg c]
    refine q_227s hs ?_
    rw [if_neg (by decide)]
    exact q_243s hs fin
theorem l_158a [Inhabited gh_] (hn : n + 1 ≤ 12) (ho : o = 11 - (n : Int)) {x2 x3 x4 X2 X3 : Int} {w wq : Int → Int} {T : Int}
    (hX3 : X3 ≤ 3) (hT61 : Mq 6 61 = T) (hk0 : 0 ≤ Mq 6 75 ∧ Mq 6 75 < 1300)
    (hw : ∀ j, 0 ≤ j → j < 3 → (-1 ≤ w j ∧ w j ≤ 2) ∧ -1 ≤ wq j ∧ (b = 1 → wq j = w j))
    (hX : ∀ j M, 0 ≤ j → j < 3 → XC Mx1 M → (j < X3 → (0 ≤ w32 (X2 + j) ∧ w32 (X2 + j) < 60) ∧ M 113 (w32 (X2 + j)) = w j ∧ 0 ≤ w j) ∧ (¬ j < X3 → w j = -1))
    (hF : ∀ (V : vv_) j M, 0 ≤ j → j < 3 → QV b Mq1 M → V 88 [rr 6, ii (Mq 6 75), ii x2, ii x3, ii x4, ii j, ii 1, ii (wq j + 1), none] [] M → F21 V (Mq 6 75) x2 x3 x4 j M)
    (hV : Cl_ wd0 (Tr_ wd0 pg0 (9 * n + 14)) V (ri_ K) Qt m_158) (hW : Wk_ V)
    (hQ : b = 0 → ∀ Mx', XA Mx Mx' → (∀ (R : mm_ → Prop) (Qtq : qt_), (∀ M', SQ Mx' Mq M' → R M') → Tr_ wd0 pg0 (dq + 13) 298 [.inr (.inr 6), .inl (Mq 6 75), .inl x2, .inl x3, .inl x4] Mq1 (rv_ R) Qtq) → Qt 8 Mx') :
    ∀ (m : Nat) (j : Int) (Mx2 Mq2 : mm_) (a2 s z : Int), (m : Int) + j = 3 → 0 ≤ j → AM b F Mx Mq Mx2 Mq2 a a2 (o + 1) s z → XC Mx1 Mx2 → QV b Mq1 Mq2 → (Mx 70 a2 ≠ 102 ∧ Mx 70 a2 ≠ 103) → 0 ≤ z → s ≤ 0
      → (∀ (R : mm_ → Prop) (Qtq : qt_), (∀ V : vv_, Cl_ wd0 (Tr_ wd0 pg0 (dq + 12)) V (rv_ R) Qtq m_298 → Wk_ V → V 21 [rr 6, ii (Mq 6 75), ii x2, ii x3, ii x4, ii j, ii 1, none, none] [] (if a2 < 1200 then nx_ Mq2 else bf_ Mq2 2 (Mx2 71 a2))) → Tr_ wd0 pg0 (dq + 13) 298 [.inr (.inr 6), .inl (Mq 6 75), .inl x2, .inl x3, .inl x4] Mq1 (rv_ R) Qtq)
      → (b = 1 → LPz (vS1 (Mx 70) o) (a2, j) ≠ none)
      → (b = 1 → Mq2 6 13 = 0 → j ≤ X3 → VAL Mx2 Mq2 T (Mq2 6 104) (fun i => w i + 1) (Mq 6 75) j.toNat (Mx 5 3) (Mx2 5 3))
      → (∀ Mx' Mq' a' nn s' z', AM b F Mx Mq Mx' Mq' a a' o s' z' → 8 ≤ z' → s' ≤ 0 → XC Mx1 Mx' → QV b Mq1 Mq' → (1 ≤ nn ∧ nn ≤ 3) → LPz (vS1 (Mx 70) o) (a2, j) = some a'
          → (b = 1 → Mq' 6 13 = 0 → nn ≤ X3 → VAL Mx' Mq' T (Mq' 6 104) (fun i => w i + 1) (Mq 6 75) nn.toNat (Mx 5 3) (Mx' 5 3))
          → (∀ (R : mm_ → Prop) (Qtq : qt_), (∀ V : vv_, Cl_ wd0 (Tr_ wd0 pg0 (dq + 12)) V (rv_ R) Qtq m_298 → Wk_ V → V 137 [rr 6, ii (Mq 6 75), ii x2, ii x3, ii x4, ii nn, none, none, none] [] Mq') → Tr_ wd0 pg0 (dq + 13) 298 [.inr (.inr 6), .inl (Mq 6 75), .inl x2, .inl x3, .inl x4] Mq1 (rv_ R) Qtq) → K nn Mx')
      → V 18 [rr 1, rr 113, ii X2, ii X3, ii j] [] Mx2 := by
  intro m
  induction m with
  | zero =>
    intro j Mx2 Mq2 a2 s z hm hj A hx2 hq2 hkk hz hs pre hS hVal hD
    have hE := AM_E A
    have e70 := AM_70 A
    have ha2 := ER_a hE
    have hb0 : b = 0 := by
      rcases hE.2.2.2.2.2.2.2.2.1 with hb | hb
      · exact hb
      · exfalso
        apply hS hb
        rw [show j = 3 by omega]; exact vS_3 ha2.1 ha2.2
    refine b_158a_18 (Tr_mono _) hV hW X2 X3 j Mx2 ?_
    refine y_105 hE (by rw [e70]; exact hkk) (fun hb => by omega) (fun h12 hE1 => ?_) (fun hb h12 => ?_)
    rotate_left
    · have hsp := SQ_bf hE hb (k := 2) (by decide) (QC_QA (AM_Q A))
      refine hQ hb _ (XA_tr (XC_XA (AM_X A)) (XF_XA fl_XF)) fun R Qtq hk9 => pre _ _ fun V hV hW => ?_
      rw [if_neg (by omega)]
      exact q_298s hV hW hsp.1 (hk9 _ hsp)
    have A1 := AM_go A hE1
    have hT1 := AM_T A1
    have m71 := AM_71 A1
    have qrun : ∀ (R : mm_ → Prop) (Qtq : qt_), R (bf_ (nx_ Mq2) (if bE_ (nX_ Mx2 70 (a2 + 1)) then 2 else 1) (nX_ Mx2 71 (a2 + 1))) → Tr_ wd0 pg0 (dq + 13) 298 [.inr (.inr 6), .inl (Mq 6 75), .inl x2, .inl x3, .inl x4] Mq1 (rv_ R) Qtq := by
      intro R Qtq hR
      refine pre _ _ fun V hV hW => ?_
      rw [if_pos h12]
      refine b_298_21 (Tr_mono _) hV hW _ _ _ _ _ _ _ ?_
      rw [if_neg (by decide)]
      refine q_227g (ER_goq hE1) ?_
      rw [if_pos rfl, if_pos (by omega)]
      exact j_299 hT1 hE1 hb0 (rv_i hR)
    rw [if_pos (by omega)]
    refine y_159 hE1 (fun c => ?_) (fun c => ?_)
    · rw [if_neg (by decide), hE1.2.1]
      rw [if_pos c] at qrun
      refine x_106 (by omega) (by omega) ?_
      rw [if_neg (by decide)]
      exact hQ hb0 _ (XA_tr (XC_XA (AM_X A1)) (XF_XA fl_XF)) fun R Qtq hk9 => qrun _ _ (hk9 _ (SQ_bf hE1 hb0 (by decide) (QC_QA (AM_Q A1))))
    · rw [if_pos rfl]
      rw [if_neg c] at qrun
      have fin : Qt 8 (flX_ (nX_ Mx2) 1 (a2 + 1)) := hQ hb0 _ (XA_tr (XC_XA (AM_X A1)) (XF_XA fl_XF)) fun R Qtq hk9 => qrun _ _ (hk9 _ (SQ_bf hE1 hb0 (by decide) (QC_QA (AM_Q A1))))
      by_cases c3 : j < X3
      · omega
      · rw [if_neg c3]
        exact x_145b (d := 9 * n + 4) hE1 c fin
  | succ m ih =>
    intro j Mx2 Mq2 a2 s z hm hj A hx2 hq2 hkk hz hs pre hS hVal hD
    have hE := AM_E A
    have e70 := AM_70 A
    have ha2 := ER_a hE
    have hj2 : j < 3 := by omega
    have h01 := hE.2.2.2.2.2.2.2.2.1
    have hu : a2 < 1200 → LPz (vS1 (Mx 70) o) (a2, j) = (ES (Mx 70) 0 (o + 1) (a2 + 1)).bind fun a3 => if Mx 70 a3 = 244 then LPz (vS1 (Mx 70) o) (a3, j + 1) else tS (Mx 70) 241 a3 := vS_e ha2.1 (by omega)
    refine b_158a_18 (Tr_mono _) hV hW X2 X3 j Mx2 ?_
    refine y_105 hE (by rw [e70]; exact hkk) (fun hb => by
      intro c
      apply hS hb
      exact vS_n ha2.1 ha2.2 c) (fun h12 hE1 => ?_) (fun hb h12 => ?_)
    rotate_left
    · have hsp := SQ_bf hE hb (k := 2) (by decide) (QC_QA (AM_Q A))
      refine hQ hb _ (XA_tr (XC_XA (AM_X A)) (XF_XA fl_XF)) fun R Qtq hk9 => pre _ _ fun V hV hW => ?_
      rw [if_neg (by omega)]
      exact q_298s hV hW hsp.1 (hk9 _ hsp)
    have A1 := AM_go A hE1
    have m70 := AM_70 A1
    have hx3 : XC Mx1 (nX_ Mx2) := XC_tr hx2 (XF_XC nX_XF)
    have hq3 : QV b Mq1 (nx_ Mq2) := QV_tr hq2 QV_nx
    have y53 : nX_ Mx2 5 3 = Mx2 5 3 := by rw [nX_ne (by decide)]
    have y104 : nx_ Mq2 6 104 = Mq2 6 104 := nx_6 (by decide)
    have y13 : nx_ Mq2 6 13 = Mq2 6 13 := nx_6 (by decide)
    have y61 : nx_ Mq2 6 61 = T := by rw [nx_6 (by decide), (AM_Q A).2 61 (by decide)]; exact hT61
    have y142 : nX_ Mx2 142 = Mx2 142 := nX_ne (by decide)
    have yr : ∀ r : Nat, r ≠ 6 → nx_ Mq2 r = Mq2 r := fun r hr => nx_ne hr
    rw [hu h12] at hS
    rw [hu h12] at hD
    have preE : ∀ (R : mm_ → Prop) (Qtq : qt_), (∀ V : vv_, Cl_ wd0 (Tr_ wd0 pg0 (dq + 12)) V (rv_ R) Qtq m_298 → Wk_ V → V 88 [rr 6, ii (Mq 6 75), ii x2, ii x3, ii x4, ii j, ii 1, ii (wq j + 1), none] [] (nx_ Mq2)) → Tr_ wd0 pg0 (dq + 13) 298 [.inr (.inr 6), .inl (Mq 6 75), .inl x2, .inl x3, .inl x4] Mq1 (rv_ R) Qtq := by
      intro R Qtq hR
      refine pre _ _ fun V hV hW => ?_
      rw [if_pos h12]
      refine b_298_21 (Tr_mono _) hV hW _ _ _ _ _ _ _ ?_
      rw [if_neg (by decide)]
      refine q_227g (ER_goq hE1) ?_
      rw [if_pos rfl, if_neg (by omega)]
      exact hF V j _ hj hj2 hq3 (hR V hV hW)
    rw [if_neg (by omega)]
    generalize nX_ Mx2 = Mx3 at *
    generalize nx_ Mq2 = Mq3 at *
    have wants : Tr_ wd0 pg0 (9 * n + 14) 145 [.inr (.inr 1), .inl (w j)] Mx3 (rv_ fun M3 => V 65 [rr 1, rr 113, ii X2, ii X3, ii j] [] M3) Qt := by
      have hwj := hw j hj hj2
      refine x_w (dq := dq) (n := n) (w := w j) (wq := wq j) (by omega) (by omega) hwj.1 hwj.2.1 hwj.2.2 (AM_T A1) (AM_V A1) hE1 (AM_f A1) (fun hb => by rw [m70]; intro c; have := hS hb; rw [c, Option.bind_none] at this; exact absurd rfl this) (fun Mx4 Mq4 a4 hW4 hS4 hq4 => ?_) (fun hb Mx' hx9 hq9 => ?_)
      rotate_left
      · refine hQ hb Mx' (XA_tr (XC_XA (AM_X A1)) (XF_XA hx9)) fun R Qtq hk9 => preE _ _ fun V hV hW => b_298_88 (Tr_mono _) hV hW _ _ _ _ _ _ _ _ (hq9 _ _ fun M' g1 g2 g3 g4 g5 => ?_)
        refine q_227s g1 ?_
        rw [if_neg (by decide)]
        exact rv_i (hk9 _ ⟨g1, g2, g3, g4, QA_tr (QC_QA (AM_Q A1)) (QF_QA g5)⟩)
      have A4 := AM_w A1 hW4
      have ew : w32 (w32 (3 * Mq 6 75) + j) = 3 * Mq 6 75 + j := by rw [w32_id (x := 3 * Mq 6 75) (by omega) (by omega), w32_id (by omega) (by omega)]
      have ej : w32 (j + 1) = j + 1 := w32_id (by omega) (by omega)
      have A5 := AM_u9 (v := Mq3 6 104) (i := 3 * Mq 6 75 + j) A4 (by omega)
      have hE5 := AM_E A5
      have hT5 := AM_T A5
      have p70 := AM_70 A5
      rw [m70] at hS4
      rw [hS4, Option.bind_some] at hS
      rw [hS4, Option.bind_some] at hD
      have hx5 : XC Mx1 Mx4 := XC_tr hx3 (XF_XC hW4.2.1)
      have hq5 : QV b Mq1 (up_ Mq4 209 (3 * Mq 6 75 + j) (Mq3 6 104)) := QV_tr (QV_tr hq3 (QG_QV hW4.2.2.1 (fun hb h0 => (hW4.2.2.2.2.2.2.2.2.2 hb h0).1))) QV_9
      have hval : b = 1 → up_ Mq4 209 (3 * Mq 6 75 + j) (Mq3 6 104) 6 13 = 0 → j + 1 ≤ X3 → VAL Mx4 (up_ Mq4 209 (3 * Mq 6 75 + j) (Mq3 6 104)) T (up_ Mq4 209 (3 * Mq 6 75 + j) (Mq3 6 104) 6 104) (fun i => w i + 1) (Mq 6 75) (j + 1).toNat (Mx 5 3) (Mx4 5 3) := by
        intro hb h0 hle
        rw [up_ne (by decide)] at h0
        obtain ⟨h313, t, ht, hx4⟩ := hW4.2.2.2.2.2.2.2.2.2 hb h0
        have ht1 : t = w j + 1 := ht (by
          have := (hX j Mx3 hj hj2 hx3).1 (by omega)
          omega)
        rw [y61, ht1] at hx4
        have h213 : Mq2 6 13 = 0 := by rw [← y13]; exact h313
        have v2 := hVal hb h213 (by omega)
        have ee := EXP_le hx4
        have e0 := (ER_st A.1.2.2.1).1
        have r209 : Mq4 209 = Mq2 209 := (hW4.2.2.1.1 209 (by decide)).trans (yr 209 (by decide))
        have t1 := QC_tb (QV_QC hq2)
        have t2 := QC_tb (QV_QC hq5)
        rw [show (j + 1).toNat = j.toNat + 1 by omega]
        refine ⟨Mx3 5 3, ?_, ?_⟩
        · rw [y53]
          refine VAL_c (fun i x y => ?_) ⟨t2.1.trans t1.1.symm, t2.2.1.trans t1.2.1.symm, t2.2.2.1.trans t1.2.2.1.symm, t2.2.2.2.1.trans t1.2.2.2.1.symm, t2.2.2.2.2.trans t1.2.2.2.2.symm⟩ (by rw [up_ne (by decide)]; omega) (fun _ => rfl) _ (by omega) (fun i x y => ?_) (fun i x y => ?_) v2
          · have q := hW4.2.2.2.2.2.1 i x (by omega)
            rw [up_ne (by decide), up_ne (by decide), q.1, q.2, yr 227 (by decide), yr 228 (by decide)]; exact ⟨rfl, rfl⟩
          · rw [up_off (by omega), r209]
          · rw [hW4.2.2.2.2.2.2.2.1 i (by omega) (by omega), y142]
        · have e9 : up_ Mq4 209 (3 * Mq 6 75 + j) (Mq3 6 104) 209 (3 * Mq 6 75 + (j.toNat : Int)) = Mq3 6 104 := by rw [Int.toNat_of_nonneg hj, up_at]
          have es : (fun i => w i + 1) (j.toNat : Int) = w j + 1 := by simp only [Int.toNat_of_nonneg hj]
          rw [e9, es]
          refine EXP_c hx4 (fun _ _ _ => rfl) (fun i _ _ => by rw [up_ne (by decide), up_ne (by decide)]; exact ⟨rfl, rfl⟩) (by unfold tb_; rw [up_ne (by decide), up_ne (by decide), up_ne (by decide), up_ne (by decide), up_ne (by decide)]; exact ⟨rfl, rfl, rfl, rfl, rfl⟩) (by rw [up_ne (by decide)]; omega)
      have preF : ∀ (R : mm_ → Prop) (Qtq : qt_), (∀ V : vv_, Cl_ wd0 (Tr_ wd0 pg0 (dq + 12)) V (rv_ R) Qtq m_298 → Wk_ V → Tr_ wd0 pg0 (dq + 12) 242 [.inr (.inr 6), .inl 44] (up_ Mq4 209 (3 * Mq 6 75 + j) (Mq3 6 104)) (ri_ fun v3 M3 => V 21 [rr 6, ii (Mq 6 75), ii x2, ii x3, ii x4, ii (j + 1), ii v3, none, none] [] M3) Qtq) → Tr_ wd0 pg0 (dq + 13) 298 [.inr (.inr 6), .inl (Mq 6 75), .inl x2, .inl x3, .inl x4] Mq1 (rv_ R) Qtq := by
        intro R Qtq hR
        refine preE _ _ fun V hV hW => b_298_88 (Tr_mono _) hV hW _ _ _ _ _ _ _ _ (hq4 _ _ ?_)
        refine q_227g (ER_goq (AM_E A4)) ?_
        rw [if_pos rfl, ew, ej]
        exact ⟨by omega, hR V hV hW⟩
      refine b_158a_65 (Tr_mono _) hV hW X2 X3 j Mx4 ?_
      rw [ej]
      generalize up_ Mq4 209 (3 * Mq 6 75 + j) (Mq3 6 104) = Mq5 at *
      refine y_117 hE5 (by decide) (fun k1 => ?_) (fun k1 => ?_)
      · -- a comma
        rw [if_neg (by decide)]
        have k1' : Mx 70 a4 = 244 := by rw [← p70]; exact k1
        rw [if_pos k1'] at hS hD
        refine ih (j + 1) Mx4 Mq5 a4 (s - 3) (z + 8 + 3) (by omega) (by omega) A5 hx5 hq5 (by omega) (by omega) (by omega) (fun R Qtq hR => preF _ _ fun V hV hW => ?_) hS hval hD
        have := hR V hV hW
        by_cases c : a4 < 1200
        · rw [if_pos c] at this
          exact j_242t hT5 hE5 (by decide) k1 c this
        · rw [if_neg c] at this
          have a41 : a4 = 1200 := by have := ER_a hE5; omega
          rcases h01 with hb | hb
          · exact j_242r hT5 hE5 hb (by decide) k1 a41 this
          · exfalso
            apply hS hb
            exact vS_n (by omega) (by omega) (by unfold gS; rw [if_neg c])
      · -- the end
        rw [if_pos rfl]
        have k1' : Mx 70 a4 ≠ 244 := by rw [← p70]; exact k1
        rw [if_neg k1'] at hS hD
        have preH : ∀ (R : mm_ → Prop) (Qtq : qt_), (∀ V : vv_, Cl_ wd0 (Tr_ wd0 pg0 (dq + 12)) V (rv_ R) Qtq m_298 → Wk_ V → Tr_ wd0 pg0 (dq + 12) 243 [.inr (.inr 6), .inl 41] Mq5 (rv_ fun M1 => V 137 [rr 6, ii (Mq 6 75), ii x2, ii x3, ii x4, ii (j + 1), none, none, none] [] M1) Qtq) → Tr_ wd0 pg0 (dq + 13) 298 [.inr (.inr 6), .inl (Mq 6 75), .inl x2, .inl x3, .inl x4] Mq1 (rv_ R) Qtq := by
          intro R Qtq hR
          refine preF _ _ fun V hV hW => j_242f hT5 hE5 (by decide) k1 ?_
          refine b_298_21 (Tr_mono _) hV hW _ _ _ _ _ _ _ ?_
          rw [if_pos rfl]
          exact hR V hV hW
        refine y_121 hE5 (by decide) (fun hb => by rw [p70]; exact hS hb) (fun k2 h13 hE6 => ?_) (fun hb k2 h13 => ?_) (fun hb k2 => ?_)
        rotate_left
        · have hsp := SQ_bf hE5 hb (k := 2) (by decide) (QC_QA (AM_Q A5))
          refine hQ hb _ (XA_tr (XC_XA (AM_X A5)) (XF_XA fl_XF)) fun R Qtq hk9 => preH _ _ fun V hV hW => j_243r hT5 hE5 hb (by decide) k2 h13 ?_
          refine b_298_137 (Tr_mono _) hV hW _ _ _ _ _ _ ?_
          refine q_227s hsp.1 ?_
          rw [if_neg (by decide)]
          exact rv_i (hk9 _ hsp)
        · have hsp := SQ_bf hE5 hb (k := 1) (by decide) (QC_QA (AM_Q A5))
          refine hQ hb _ (XA_tr (XC_XA (AM_X A5)) (XF_XA fl_XF)) fun R Qtq hk9 => preH _ _ fun V hV hW => j_243w hT5 hE5 hb (by decide) k2 ?_
          refine b_298_137 (Tr_mono _) hV hW _ _ _ _ _ _ ?_
          refine q_227s hsp.1 ?_
          rw [if_neg (by decide)]
          exact rv_i (hk9 _ hsp)
        have A6 := AM_go A5 hE6
        have A7 := AM_o A6 (o2 := o) (by omega)
        have e6o : w32 (nX_ Mx4 1 6 - 1) = o := by rw [hE6.2.2.2.1, w32_id (by omega) (by omega)]; omega
        rw [e6o]
        refine ri_i (hD _ (up_ (nx_ Mq5) 6 15 o) (a4 + 1) (j + 1) _ _ A7 (by omega) (by omega) (XC_tr hx5 (XC_tr (XF_XC nX_XF) (XC_u1 (by decide)))) (QV_tr hq5 (QV_tr QV_nx QV_15)) (by omega) (tS_e (by rw [← p70]; exact k2) h13) (fun hb h0 hle => ?_) (fun R Qtq hR => preH _ _ fun V hV hW => j_243t hT5 hE5 (by decide) k2 h13 (by omega) (by rw [show o + 1 - 1 = o by omega]; exact hR V hV hW)))
        have hv := hval hb (by rw [up_off (by decide), nx_6 (by decide)] at h0; exact h0) hle
        have e104 : up_ (nx_ Mq5) 6 15 o 6 104 = Mq5 6 104 := by rw [up_off (by decide), nx_6 (by decide)]
        have e53 : up_ (nX_ Mx4) 1 6 o 5 3 = Mx4 5 3 := by rw [up_ne (by decide), nX_ne (by decide)]
        rw [e104, e53]
        have er : ∀ r : Nat, r ≠ 6 → up_ (nx_ Mq5) 6 15 o r = Mq5 r := fun r hr => by rw [up_ne hr, nx_ne hr]
        exact VAL_c (fun i _ _ => by rw [er 227 (by decide), er 228 (by decide)]; exact ⟨rfl, rfl⟩) ⟨er _ (by decide), er _ (by decide), er _ (by decide), er _ (by decide), er _ (by decide)⟩ (by omega) (fun _ => rfl) _ (by omega) (fun i _ _ => by rw [er 209 (by decide)]) (fun i _ _ => by rw [up_ne (by decide), nX_ne (by decide)]) hv
    have hXj := hX j Mx3 hj hj2 hx3
    by_cases c3 : j < X3
    · rw [if_pos c3]
      have := hXj.1 c3
      rw [this.2.1]
      exact ⟨this.1, wants⟩
    · rw [if_neg c3]
      rw [hXj.2 c3] at wants
      exact wants
theorem l_158b [Inhabited gh_] (hn : n + 1 ≤ 12) (ho : o = 11 - (n : Int)) {x2 x3 x4 X2 X3 : Int} {w wq : Int → Int} {T : Int}
    (hX3 : X3 ≤ 3) (hT61 : Mq 6 61 = T) (hk0 : 0 ≤ Mq 6 75 ∧ Mq 6 75 < 1300)
    (hw : ∀ j, 0 ≤ j → j < 3 → (-1 ≤ w j ∧ w j ≤ 2) ∧ -1 ≤ wq j ∧ (b = 1 → wq j = w j))
    (hX : ∀ j M, 0 ≤ j → j < 3 → XC Mx1 M → (j < X3 → (0 ≤ w32 (X2 + j) ∧ w32 (X2 + j) < 48) ∧ M 130 (w32 (X2 + j)) = w j ∧ 0 ≤ w j) ∧ (¬ j < X3 → w j = -1))
    (hF : ∀ (V : vv_) j M, 0 ≤ j → j < 3 → QV b Mq1 M → V 88 [rr 6, ii (Mq 6 75), ii x2, ii x3, ii x4, ii j, ii 1, ii (wq j + 1), none] [] M → F21 V (Mq 6 75) x2 x3 x4 j M)
    (hV : Cl_ wd0 (Tr_ wd0 pg0 (9 * n + 14)) V (ri_ K) Qt m_158) (hW : Wk_ V)
    (hQ : b = 0 → ∀ Mx', XA Mx Mx' → (∀ (R : mm_ → Prop) (Qtq : qt_), (∀ M', SQ Mx' Mq M' → R M') → Tr_ wd0 pg0 (dq + 13) 298 [.inr (.inr 6), .inl (Mq 6 75), .inl x2, .inl x3, .inl x4] Mq1 (rv_ R) Qtq) → Qt 8 Mx') :
    ∀ (m : Nat) (j : Int) (Mx2 Mq2 : mm_) (a2 s z : Int), (m : Int) + j = 3 → 0 ≤ j → AM b F Mx Mq Mx2 Mq2 a a2 (o + 1) s z → XC Mx1 Mx2 → QV b Mq1 Mq2 → (Mx 70 a2 ≠ 102 ∧ Mx 70 a2 ≠ 103) → 0 ≤ z → s ≤ 0
      → (∀ (R : mm_ → Prop) (Qtq : qt_), (∀ V : vv_, Cl_ wd0 (Tr_ wd0 pg0 (dq + 12)) V (rv_ R) Qtq m_298 → Wk_ V → V 21 [rr 6, ii (Mq 6 75), ii x2, ii x3, ii x4, ii j, ii 1, none, none] [] (if a2 < 1200 then nx_ Mq2 else bf_ Mq2 2 (Mx2 71 a2))) → Tr_ wd0 pg0 (dq + 13) 298 [.inr (.inr 6), .inl (Mq 6 75), .inl x2, .inl x3, .inl x4] Mq1 (rv_ R) Qtq)
      → (b = 1 → LPz (vS1 (Mx 70) o) (a2, j) ≠ none)
      → (b = 1 → Mq2 6 13 = 0 → j ≤ X3 → VAL Mx2 Mq2 T (Mq2 6 104) (fun i => w i + 1) (Mq 6 75) j.toNat (Mx 5 3) (Mx2 5 3))
      → (∀ Mx' Mq' a' nn s' z', AM b F Mx Mq Mx' Mq' a a' o s' z' → 8 ≤ z' → s' ≤ 0 → XC Mx1 Mx' → QV b Mq1 Mq' → (1 ≤ nn ∧ nn ≤ 3) → LPz (vS1 (Mx 70) o) (a2, j) = some a'
          → (b = 1 → Mq' 6 13 = 0 → nn ≤ X3 → VAL Mx' Mq' T (Mq' 6 104) (fun i => w i + 1) (Mq 6 75) nn.toNat (Mx 5 3) (Mx' 5 3))
          → (∀ (R : mm_ → Prop) (Qtq : qt_), (∀ V : vv_, Cl_ wd0 (Tr_ wd0 pg0 (dq + 12)) V (rv_ R) Qtq m_298 → Wk_ V → V 137 [rr 6, ii (Mq 6 75), ii x2, ii x3, ii x4, ii nn, none, none, none] [] Mq') → Tr_ wd0 pg0 (dq + 13) 298 [.inr (.inr 6), .inl (Mq 6 75), .inl x2, .inl x3, .inl x4] Mq1 (rv_ R) Qtq) → K nn Mx')
      → V 18 [rr 1, rr 130, ii X2, ii X3, ii j] [] Mx2 := by
  intro m
  induction m with
  | zero =>
    intro j Mx2 Mq2 a2 s z hm hj A hx2 hq2 hkk hz hs pre hS hVal hD
    have hE := AM_E A
    have e70 := AM_70 A
    have ha2 := ER_a hE
    have hb0 : b = 0 := by
      rcases hE.2.2.2.2.2.2.2.2.1 with hb | hb
      · exact hb
      · exfalso
        apply hS hb
        rw [show j = 3 by omega]; exact vS_3 ha2.1 ha2.2
    refine b_158b_18 (Tr_mono _) hV hW X2 X3 j Mx2 ?_
    refine y_105 hE (by rw [e70]; exact hkk) (fun hb => by omega) (fun h12 hE1 => ?_) (fun hb h12 => ?_)
    rotate_left
    · have hsp := SQ_bf hE hb (k := 2) (by decide) (QC_QA (AM_Q A))
      refine hQ hb _ (XA_tr (XC_XA (AM_X A)) (XF_XA fl_XF)) fun R Qtq hk9 => pre _ _ fun V hV hW => ?_
      rw [if_neg (by omega)]
      exact q_298s hV hW hsp.1 (hk9 _ hsp)
    have A1 := AM_go A hE1
    have hT1 := AM_T A1
    have m71 := AM_71 A1
    have qrun : ∀ (R : mm_ → Prop) (Qtq : qt_), R (bf_ (nx_ Mq2) (if bE_ (nX_ Mx2 70 (a2 + 1)) then 2 else 1) (nX_ Mx2 71 (a2 + 1))) → Tr_ wd0 pg0 (dq + 13) 298 [.inr (.inr 6), .inl (Mq 6 75), .inl x2, .inl x3, .inl x4] Mq1 (rv_ R) Qtq := by
      intro R Qtq hR
      refine pre _ _ fun V hV hW => ?_
      rw [if_pos h12]
      refine b_298_21 (Tr_mono _) hV hW _ _ _ _ _ _ _ ?_
      rw [if_neg (by decide)]
      refine q_227g (ER_goq hE1) ?_
      rw [if_pos rfl, if_pos (by omega)]
      exact j_299 hT1 hE1 hb0 (rv_i hR)
    rw [if_pos (by omega)]
    refine y_159 hE1 (fun c => ?_) (fun c => ?_)
    · rw [if_neg (by decide), hE1.2.1]
      rw [if_pos c] at qrun
      refine x_106 (by omega) (by omega) ?_
      rw [if_neg (by decide)]
      exact hQ hb0 _ (XA_tr (XC_XA (AM_X A1)) (XF_XA fl_XF)) fun R Qtq hk9 => qrun _ _ (hk9 _ (SQ_bf hE1 hb0 (by decide) (QC_QA (AM_Q A1))))
    · rw [if_pos rfl]
      rw [if_neg c] at qrun
      have fin : Qt 8 (flX_ (nX_ Mx2) 1 (a2 + 1)) := hQ hb0 _ (XA_tr (XC_XA (AM_X A1)) (XF_XA fl_XF)) fun R Qtq hk9 => qrun _ _ (hk9 _ (SQ_bf hE1 hb0 (by decide) (QC_QA (AM_Q A1))))
      by_cases c3 : j < X3
      · omega
      · rw [if_neg c3]
        exact x_145b (d := 9 * n + 4) hE1 c fin
  | succ m ih =>
    intro j Mx2 Mq2 a2 s z hm hj A hx2 hq2 hkk hz hs pre hS hVal hD
    have hE := AM_E A
    have e70 := AM_70 A
    have ha2 := ER_a hE
    have hj2 : j < 3 := by omega
    have h01 := hE.2.2.2.2.2.2.2.2.1
    have hu : a2 < 1200 → LPz (vS1 (Mx 70) o) (a2, j) = (ES (Mx 70) 0 (o + 1) (a2 + 1)).bind fun a3 => if Mx 70 a3 = 244 then LPz (vS1 (Mx 70) o) (a3, j + 1) else tS (Mx 70) 241 a3 := vS_e ha2.1 (by omega)
    refine b_158b_18 (Tr_mono _) hV hW X2 X3 j Mx2 ?_
    refine y_105 hE (by rw [e70]; exact hkk) (fun hb => by
      intro c
      apply hS hb
      exact vS_n ha2.1 ha2.2 c) (fun h12 hE1 => ?_) (fun hb h12 => ?_)
    rotate_left
    · have hsp := SQ_bf hE hb (k := 2) (by decide) (QC_QA (AM_Q A))
      refine hQ hb _ (XA_tr (XC_XA (AM_X A)) (XF_XA fl_XF)) fun R Qtq hk9 => pre _ _ fun V hV hW => ?_
      rw [if_neg (by omega)]
      exact q_298s hV hW hsp.1 (hk9 _ hsp)
    have A1 := AM_go A hE1
    have m70 := AM_70 A1
    have hx3 : XC Mx1 (nX_ Mx2) := XC_tr hx2 (XF_XC nX_XF)
    have hq3 : QV b Mq1 (nx_ Mq2) := QV_tr hq2 QV_nx
    have y53 : nX_ Mx2 5 3 = Mx2 5 3 := by rw [nX_ne (by decide)]
    have y104 : nx_ Mq2 6 104 = Mq2 6 104 := nx_6 (by decide)
    have y13 : nx_ Mq2 6 13 = Mq2 6 13 := nx_6 (by decide)
    have y61 : nx_ Mq2 6 61 = T := by rw [nx_6 (by decide), (AM_Q A).2 61 (by decide)]; exact hT61
    have y142 : nX_ Mx2 142 = Mx2 142 := nX_ne (by decide)
    have yr : ∀ r : Nat, r ≠ 6 → nx_ Mq2 r = Mq2 r := fun r hr => nx_ne hr
    rw [hu h12] at hS
    rw [hu h12] at hD
    have preE : ∀ (R : mm_ → Prop) (Qtq : qt_), (∀ V : vv_, Cl_ wd0 (Tr_ wd0 pg0 (dq + 12)) V (rv_ R) Qtq m_298 → Wk_ V → V 88 [rr 6, ii (Mq 6 75), ii x2, ii x3, ii x4, ii j, ii 1, ii (wq j + 1), none] [] (nx_ Mq2)) → Tr_ wd0 pg0 (dq + 13) 298 [.inr (.inr 6), .inl (Mq 6 75), .inl x2, .inl x3, .inl x4] Mq1 (rv_ R) Qtq := by
      intro R Qtq hR
      refine pre _ _ fun V hV hW => ?_
      rw [if_pos h12]
      refine b_298_21 (Tr_mono _) hV hW _ _ _ _ _ _ _ ?_
      rw [if_neg (by decide)]
      refine q_227g (ER_goq hE1) ?_
      rw [if_pos rfl, if_neg (by omega)]
      exact hF V j _ hj hj2 hq3 (hR V hV hW)
    rw [if_neg (by omega)]
    generalize nX_ Mx2 = Mx3 at *
    generalize nx_ Mq2 = Mq3 at *
    have wants : Tr_ wd0 pg0 (9 * n + 14) 145 [.inr (.inr 1), .inl (w j)] Mx3 (rv_ fun M3 => V 65 [rr 1, rr 130, ii X2, ii X3, ii j] [] M3) Qt := by
      have hwj := hw j hj hj2
      refine x_w (dq := dq) (n := n) (w := w j) (wq := wq j) (by omega) (by omega) hwj.1 hwj.2.1 hwj.2.2 (AM_T A1) (AM_V A1) hE1 (AM_f A1) (fun hb => by rw [m70]; intro c; have := hS hb; rw [c, Option.bind_none] at this; exact absurd rfl this) (fun Mx4 Mq4 a4 hW4 hS4 hq4 => ?_) (fun hb Mx' hx9 hq9 => ?_)
      rotate_left
      · refine hQ hb Mx' (XA_tr (XC_XA (AM_X A1)) (XF_XA hx9)) fun R Qtq hk9 => preE _ _ fun V hV hW => b_298_88 (Tr_mono _) hV hW _ _ _ _ _ _ _ _ (hq9 _ _ fun M' g1 g2 g3 g4 g5 => ?_)
        refine q_227s g1 ?_
        rw [if_neg (by decide)]
        exact rv_i (hk9 _ ⟨g1, g2, g3, g4, QA_tr (QC_QA (AM_Q A1)) (QF_QA g5)⟩)
      have A4 := AM_w A1 hW4
      have ew : w32 (w32 (3 * Mq 6 75) + j) = 3 * Mq 6 75 + j := by rw [w32_id (x := 3 * Mq 6 75) (by omega) (by omega), w32_id (by omega) (by omega)]
      have ej : w32 (j + 1) = j + 1 := w32_id (by omega) (by omega)
      have A5 := AM_u9 (v := Mq3 6 104) (i := 3 * Mq 6 75 + j) A4 (by omega)
      have hE5 := AM_E A5
      have hT5 := AM_T A5
      have p70 := AM_70 A5
      rw [m70] at hS4
      rw [hS4, Option.bind_some] at hS
      rw [hS4, Option.bind_some] at hD
      have hx5 : XC Mx1 Mx4 := XC_tr hx3 (XF_XC hW4.2.1)
      have hq5 : QV b Mq1 (up_ Mq4 209 (3 * Mq 6 75 + j) (Mq3 6 104)) := QV_tr (QV_tr hq3 (QG_QV hW4.2.2.1 (fun hb h0 => (hW4.2.2.2.2.2.2.2.2.2 hb h0).1))) QV_9
      have hval : b = 1 → up_ Mq4 209 (3 * Mq 6 75 + j) (Mq3 6 104) 6 13 = 0 → j + 1 ≤ X3 → VAL Mx4 (up_ Mq4 209 (3 * Mq 6 75 + j) (Mq3 6 104)) T (up_ Mq4 209 (3 * Mq 6 75 + j) (Mq3 6 104) 6 104) (fun i => w i + 1) (Mq 6 75) (j + 1).toNat (Mx 5 3) (Mx4 5 3) := by
        intro hb h0 hle
        rw [up_ne (by decide)] at h0
        obtain ⟨h313, t, ht, hx4⟩ := hW4.2.2.2.2.2.2.2.2.2 hb h0
        have ht1 : t = w j + 1 := ht (by
          have := (hX j Mx3 hj hj2 hx3).1 (by omega)
          omega)
        rw [y61, ht1] at hx4
        have h213 : Mq2 6 13 = 0 := by rw [← y13]; exact h313
        have v2 := hVal hb h213 (by omega)
        have ee := EXP_le hx4
        have e0 := (ER_st A.1.2.2.1).1
        have r209 : Mq4 209 = Mq2 209 := (hW4.2.2.1.1 209 (by decide)).trans (yr 209 (by decide))
        have t1 := QC_tb (QV_QC hq2)
        have t2 := QC_tb (QV_QC hq5)
        rw [show (j + 1).toNat = j.toNat + 1 by omega]
        refine ⟨Mx3 5 3, ?_, ?_⟩
        · rw [y53]
          refine VAL_c (fun i x y => ?_) ⟨t2.1.trans t1.1.symm, t2.2.1.trans t1.2.1.symm, t2.2.2.1.trans t1.2.2.1.symm, t2.2.2.2.1.trans t1.2.2.2.1.symm, t2.2.2.2.2.trans t1.2.2.2.2.symm⟩ (by rw [up_ne (by decide)]; omega) (fun _ => rfl) _ (by omega) (fun i x y => ?_) (fun i x y => ?_) v2
          · have q := hW4.2.2.2.2.2.1 i x (by omega)
            rw [up_ne (by decide), up_ne (by decide), q.1, q.2, yr 227 (by decide), yr 228 (by decide)]; exact ⟨rfl, rfl⟩
          · rw [up_off (by omega), r209]
          · rw [hW4.2.2.2.2.2.2.2.1 i (by omega) (by omega), y142]
        · have e9 : up_ Mq4 209 (3 * Mq 6 75 + j) (Mq3 6 104) 209 (3 * Mq 6 75 + (j.toNat : Int)) = Mq3 6 104 := by rw [Int.toNat_of_nonneg hj, up_at]
          have es : (fun i => w i + 1) (j.toNat : Int) = w j + 1 := by simp only [Int.toNat_of_nonneg hj]
          rw [e9, es]
          refine EXP_c hx4 (fun _ _ _ => rfl) (fun i _ _ => by rw [up_ne (by decide), up_ne (by decide)]; exact ⟨rfl, rfl⟩) (by unfold tb_; rw [up_ne (by decide), up_ne (by decide), up_ne (by decide), up_ne (by decide), up_ne (by decide)]; exact ⟨rfl, rfl, rfl, rfl, rfl⟩) (by rw [up_ne (by decide)]; omega)
      have preF : ∀ (R : mm_ → Prop) (Qtq : qt_), (∀ V : vv_, Cl_ wd0 (Tr_ wd0 pg0 (dq + 12)) V (rv_ R) Qtq m_298 → Wk_ V → Tr_ wd0 pg0 (dq + 12) 242 [.inr (.inr 6), .inl 44] (up_ Mq4 209 (3 * Mq 6 75 + j) (Mq3 6 104)) (ri_ fun v3 M3 => V 21 [rr 6, ii (Mq 6 75), ii x2, ii x3, ii x4, ii (j + 1), ii v3, none, none] [] M3) Qtq) → Tr_ wd0 pg0 (dq + 13) 298 [.inr (.inr 6), .inl (Mq 6 75), .inl x2, .inl x3, .inl x4] Mq1 (rv_ R) Qtq := by
        intro R Qtq hR
        refine preE _ _ fun V hV hW => b_298_88 (Tr_mono _) hV hW _ _ _ _ _ _ _ _ (hq4 _ _ ?_)
        refine q_227g (ER_goq (AM_E A4)) ?_
        rw [if_pos rfl, ew, ej]
        exact ⟨by omega, hR V hV hW⟩
      refine b_158b_65 (Tr_mono _) hV hW X2 X3 j Mx4 ?_
      rw [ej]
      generalize up_ Mq4 209 (3 * Mq 6 75 + j) (Mq3 6 104) = Mq5 at *
      refine y_117 hE5 (by decide) (fun k1 => ?_) (fun k1 => ?_)
      · -- a comma
        rw [if_neg (by decide)]
        have k1' : Mx 70 a4 = 244 := by rw [← p70]; exact k1
        rw [if_pos k1'] at hS hD
        refine ih (j + 1) Mx4 Mq5 a4 (s - 3) (z + 8 + 3) (by omega) (by omega) A5 hx5 hq5 (by omega) (by omega) (by omega) (fun R Qtq hR => preF _ _ fun V hV hW => ?_) hS hval hD
        have := hR V hV hW
        by_cases c : a4 < 1200
        · rw [if_pos c] at this
          exact j_242t hT5 hE5 (by decide) k1 c this
        · rw [if_neg c] at this
          have a41 : a4 = 1200 := by have := ER_a hE5; omega
          rcases h01 with hb | hb
          · exact j_242r hT5 hE5 hb (by decide) k1 a41 this
          · exfalso
            apply hS hb
            exact vS_n (by omega) (by omega) (by unfold gS; rw [if_neg c])
      · -- the end
        rw [if_pos rfl]
        have k1' : Mx 70 a4 ≠ 244 := by rw [← p70]; exact k1
        rw [if_neg k1'] at hS hD
        have preH : ∀ (R : mm_ → Prop) (Qtq : qt_), (∀ V : vv_, Cl_ wd0 (Tr_ wd0 pg0 (dq + 12)) V (rv_ R) Qtq m_298 → Wk_ V → Tr_ wd0 pg0 (dq + 12) 243 [.inr (.inr 6), .inl 41] Mq5 (rv_ fun M1 => V 137 [rr 6, ii (Mq 6 75), ii x2, ii x3, ii x4, ii (j + 1), none, none, none] [] M1) Qtq) → Tr_ wd0 pg0 (dq + 13) 298 [.inr (.inr 6), .inl (Mq 6 75), .inl x2, .inl x3, .inl x4] Mq1 (rv_ R) Qtq := by
          intro R Qtq hR
          refine preF _ _ fun V hV hW => j_242f hT5 hE5 (by decide) k1 ?_
          refine b_298_21 (Tr_mono _) hV hW _ _ _ _ _ _ _ ?_
          rw [if_pos rfl]
          exact hR V hV hW
        refine y_121 hE5 (by decide) (fun hb => by rw [p70]; exact hS hb) (fun k2 h13 hE6 => ?_) (fun hb k2 h13 => ?_) (fun hb k2 => ?_)
        rotate_left
        · have hsp := SQ_bf hE5 hb (k := 2) (by decide) (QC_QA (AM_Q A5))
          refine hQ hb _ (XA_tr (XC_XA (AM_X A5)) (XF_XA fl_XF)) fun R Qtq hk9 => preH _ _ fun V hV hW => j_243r hT5 hE5 hb (by decide) k2 h13 ?_
          refine b_298_137 (Tr_mono _) hV hW _ _ _ _ _ _ ?_
          refine q_227s hsp.1 ?_
          rw [if_neg (by decide)]
          exact rv_i (hk9 _ hsp)
        · have hsp := SQ_bf hE5 hb (k := 1) (by decide) (QC_QA (AM_Q A5))
          refine hQ hb _ (XA_tr (XC_XA (AM_X A5)) (XF_XA fl_XF)) fun R Qtq hk9 => preH _ _ fun V hV hW => j_243w hT5 hE5 hb (by decide) k2 ?_
          refine b_298_137 (Tr_mono _) hV hW _ _ _ _ _ _ ?_
          refine q_227s hsp.1 ?_
          rw [if_neg (by decide)]
          exact rv_i (hk9 _ hsp)
        have A6 := AM_go A5 hE6
        have A7 := AM_o A6 (o2 := o) (by omega)
        have e6o : w32 (nX_ Mx4 1 6 - 1) = o := by rw [hE6.2.2.2.1, w32_id (by omega) (by omega)]; omega
        rw [e6o]
        refine ri_i (hD _ (up_ (nx_ Mq5) 6 15 o) (a4 + 1) (j + 1) _ _ A7 (by omega) (by omega) (XC_tr hx5 (XC_tr (XF_XC nX_XF) (XC_u1 (by decide)))) (QV_tr hq5 (QV_tr QV_nx QV_15)) (by omega) (tS_e (by rw [← p70]; exact k2) h13) (fun hb h0 hle => ?_) (fun R Qtq hR => preH _ _ fun V hV hW => j_243t hT5 hE5 (by decide) k2 h13 (by omega) (by rw [show o + 1 - 1 = o by omega]; exact hR V hV hW)))
        have hv := hval hb (by rw [up_off (by decide), nx_6 (by decide)] at h0; exact h0) hle
        have e104 : up_ (nx_ Mq5) 6 15 o 6 104 = Mq5 6 104 := by rw [up_off (by decide), nx_6 (by decide)]
        have e53 : up_ (nX_ Mx4) 1 6 o 5 3 = Mx4 5 3 := by rw [up_ne (by decide), nX_ne (by decide)]
        rw [e104, e53]
        have er : ∀ r : Nat, r ≠ 6 → up_ (nx_ Mq5) 6 15 o r = Mq5 r := fun r hr => by rw [up_ne hr, nx_ne hr]
        exact VAL_c (fun i _ _ => by rw [er 227 (by decide), er 228 (by decide)]; exact ⟨rfl, rfl⟩) ⟨er _ (by decide), er _ (by decide), er _ (by decide), er _ (by decide), er _ (by decide)⟩ (by omega) (fun _ => rfl) _ (by omega) (fun i _ _ => by rw [er 209 (by decide)]) (fun i _ _ => by rw [up_ne (by decide), nX_ne (by decide)]) hv
    have hXj := hX j Mx3 hj hj2 hx3
    by_cases c3 : j < X3
    · rw [if_pos c3]
      have := hXj.1 c3
      rw [this.2.1]
      exact ⟨this.1, wants⟩
    · rw [if_neg c3]
      rw [hXj.2 c3] at wants
      exact wants
end VL
end T116_va
section T117_va
/-! values whole -/
section VW
variable {d dq n : Nat} {b F : Int} {Mx Mq Mx1 Mq1 Mx2 Mq2 M : mm_} {a a1 o o1 s z : Int} {K : Int → mm_ → Prop} {Kv G : mm_ → Prop} {Qt : qt_} {V : vv_}
def k5v_ (x3 nn : Int) : Int := if x3 < 0 ∨ nn = x3 then 0 else 5
theorem q_298e [Inhabited gh_] {x1 x2 x3 x4 nn : Int} (hV : Cl_ wd0 (Tr_ wd0 pg0 (d + 4)) V (rv_ Kv) Qt m_298) (hW : Wk_ V) (hg : go_ M) (h16 : M 6 16 = b) (h01 : b = 0 ∨ b = 1) (h1 : 0 ≤ x1 ∧ x1 < 1300) (h : Kv (Qn_ (up_ M 210 x1 nn) b (k5v_ x3 nn) x4)) : V 137 [rr 6, ii x1, ii x2, ii x3, ii x4, ii nn, none, none, none] [] M := by
  refine b_298_137 (Tr_mono _) hV hW _ _ _ _ _ M ?_
  refine q_227g hg ?_
  rw [if_pos rfl]
  refine ⟨h1, fun _ => ?_⟩
  unfold Qn_ k5v_ at h
  rw [h16]
  rcases h01 with hb | hb
  · rw [if_pos hb]
    rw [if_pos (.inl hb)] at h
    exact rv_i h
  · rw [if_neg (by omega)]
    by_cases c : x3 < 0
    · rw [if_pos c]; rw [if_pos (.inr (by rw [if_pos (.inl c)]))] at h; exact rv_i h
    · rw [if_neg c]
      by_cases c2 : nn = x3
      · rw [if_pos c2]; rw [if_pos (.inr (by rw [if_pos (.inr c2)]))] at h; exact rv_i h
      · rw [if_neg c2]
        have e5 : (if x3 < 0 ∨ nn = x3 then (0 : Int) else 5) = 5 := if_neg (by omega)
        rw [e5, if_neg (by omega)] at h
        exact q_236 (rv_i h)
theorem v_158a [Inhabited gh_] (hn : n ≤ 12) (ho : o = 12 - (n : Int)) {x2 x3 x4 X2 X3 : Int} {w wq : Int → Int} (A : AM b F Mx Mq Mx1 Mq1 a a1 o s z) (hz : 8 ≤ z) (hs : s ≤ 0)
    (hX3 : X3 ≤ 3) (hk0 : 0 ≤ Mq 6 75 ∧ Mq 6 75 < 1300)
    (hw : ∀ j, 0 ≤ j → j < 3 → (-1 ≤ w j ∧ w j ≤ 2) ∧ -1 ≤ wq j ∧ (b = 1 → wq j = w j))
    (hX : ∀ j M, 0 ≤ j → j < 3 → XC Mx1 M → (j < X3 → (0 ≤ w32 (X2 + j) ∧ w32 (X2 + j) < 60) ∧ M 113 (w32 (X2 + j)) = w j ∧ 0 ≤ w j) ∧ (¬ j < X3 → w j = -1))
    (hF : ∀ (V : vv_) j M, 0 ≤ j → j < 3 → QV b Mq1 M → V 88 [rr 6, ii (Mq 6 75), ii x2, ii x3, ii x4, ii j, ii 1, ii (wq j + 1), none] [] M → F21 V (Mq 6 75) x2 x3 x4 j M)
    (h53 : Mx1 5 3 = Mx 5 3) (hS : b = 1 → vS (Mx 70) o a1 ≠ none)
    (hK : ∀ Mx' Mq' a' nn s' z', AM b F Mx Mq Mx' Mq' a a' o s' z' → 8 ≤ z' → s' ≤ 0 → XC Mx1 Mx' → QV b Mq1 Mq' → (0 ≤ nn ∧ nn ≤ 3) → Mq' 210 (Mq 6 75) = nn → vS (Mx 70) o a1 = some a'
          → (b = 1 → Mq' 6 13 = 0 → nn ≤ X3 → VAL Mx' Mq' (Mq 6 61) (Mq' 6 104) (fun i => w i + 1) (Mq 6 75) nn.toNat (Mx 5 3) (Mx' 5 3))
          → (∀ (R : mm_ → Prop) (Qtq : qt_), R (Qn_ Mq' b (k5v_ x3 nn) x4) → Tr_ wd0 pg0 (dq + 13) 298 [.inr (.inr 6), .inl (Mq 6 75), .inl x2, .inl x3, .inl x4] Mq1 (rv_ R) Qtq) → K nn Mx')
    (hQ : b = 0 → ∀ Mx', XA Mx Mx' → (∀ (R : mm_ → Prop) (Qtq : qt_), (∀ M', SQ Mx' Mq M' → R M') → Tr_ wd0 pg0 (dq + 13) 298 [.inr (.inr 6), .inl (Mq 6 75), .inl x2, .inl x3, .inl x4] Mq1 (rv_ R) Qtq) → Qt 8 Mx') :
    Tr_ wd0 pg0 (9 * n + 15) 158 [.inr (.inr 1), .inr (.inr 113), .inl X2, .inl X3] Mx1 (ri_ K) Qt := by
  have hE := AM_E A
  have hT := AM_T A
  have e70 := AM_70 A
  have e71 := AM_71 A
  have h01 := hE.2.2.2.2.2.2.2.2.1
  have h16 := hE.2.2.2.2.2.2.2.1
  have ha := ER_a hE
  by_cases c : Mx 70 a1 = 240
  rotate_left
  · -- no bracket
    refine t_158a fun V hV hW => b_158a_0 (Tr_mono _) hV hW X2 X3 Mx1 (y_117 hE (by decide) (fun e => absurd (by rw [← e70]; exact e) c) (fun k1 => ?_))
    rw [if_pos rfl]
    have A' := AM_up (r := 210) (v := 0) A (by decide) (rfl : Mq 6 75 = Mq 6 75)
    refine ri_i (hK _ (up_ Mq1 210 (Mq 6 75) 0) a1 0 s z A' hz hs XC_rf QV_10 (by decide) (by rw [up_at]) (by unfold vS; rw [if_neg c]) (fun _ _ _ => ?_) (fun R Qtq hR => ?_))
    · exact h53
    · refine t_298 fun V hV hW => b_298_0 (Tr_mono _) hV hW _ _ _ _ Mq1 (j_237f hT hE (by decide) k1 ?_)
      rw [if_pos rfl]
      exact q_298e hV hW (ER_goq hE) h16 h01 hk0 hR
  have c1 : Mx1 70 a1 = skk_ 40 := by rw [e70]; exact c
  have preB : ∀ (R : mm_ → Prop) (Qtq : qt_), (∀ V : vv_, Cl_ wd0 (Tr_ wd0 pg0 (dq + 12)) V (rv_ R) Qtq m_298 → Wk_ V → Tr_ wd0 pg0 (dq + 12) 239 [.inr (.inr 6), .inl 40] Mq1 (rv_ fun M2 => V 21 [rr 6, ii (Mq 6 75), ii x2, ii x3, ii x4, ii 0, ii 1, none, none] [] M2) Qtq) → Tr_ wd0 pg0 (dq + 13) 298 [.inr (.inr 6), .inl (Mq 6 75), .inl x2, .inl x3, .inl x4] Mq1 (rv_ R) Qtq := by
    intro R Qtq hR
    refine t_298 fun V hV hW => b_298_0 (Tr_mono _) hV hW _ _ _ _ Mq1 (j_237t hT hE (by decide) c1 ?_)
    rw [if_neg (by decide)]
    exact hR V hV hW
  have vse : o ≠ 12 → vS (Mx 70) o a1 = LPz (vS1 (Mx 70) o) (a1, 0) := fun h => by unfold vS; rw [if_pos c, if_neg h]
  by_cases ho12 : o = 12
  · refine Tr_le (d := 14) (by omega) ?_
    refine t_158a fun V hV hW => b_158a_0 (Tr_mono _) hV hW X2 X3 Mx1 (y_117 hE (by decide) (fun _ => ?_) (fun e => absurd c1 e))
    rw [if_neg (by decide)]
    refine y_118 hE (fun hb => by intro _; apply hS hb; unfold vS; rw [if_pos c, if_pos ho12]) (fun h _ => by omega) (fun hb _ => ?_)
    exact hQ hb _ (XA_tr (XC_XA (AM_X A)) (XF_XA fl_XF)) fun R Qtq hk9 => preB _ _ fun V hV hW => j_239o hT hE hb (by decide) c1 ho12 (q_298s hV hW (SQ_o hE hb (QC_QA (AM_Q A))).1 (hk9 _ (SQ_o hE hb (QC_QA (AM_Q A)))))
  obtain ⟨m, hm⟩ : ∃ m : Nat, n = m + 1 := ⟨n - 1, by omega⟩
  subst hm
  rw [vse ho12] at hS hK
  refine Tr_le (d := 9 * m + 15) (by omega) ?_
  refine t_158a fun V hV hW => b_158a_0 (Tr_mono _) hV hW X2 X3 Mx1 (y_117 hE (by decide) (fun _ => ?_) (fun e => absurd c1 e))
  rw [if_neg (by decide)]
  refine y_118 hE (fun hb => ho12) (fun h12 hE2 => ?_) (fun hb h => absurd h ho12)
  have A2 := AM_o A (o2 := o + 1) (by omega)
  refine l_158a (Mx := Mx) (Mq := Mq) (Mx1 := Mx1) (Mq1 := Mq1) (o := o) hn (by omega) (T := Mq 6 61) hX3 rfl hk0 hw hX hF hV hW hQ 3 0 (up_ Mx1 1 6 (o + 1)) (up_ Mq1 6 15 (o + 1)) a1 s z (by decide) (by decide) A2 (XC_u1 (by decide)) QV_15 (by omega) (by omega) hs (fun R Qtq hR => preB _ _ fun V hV hW => ?_) hS (fun _ _ _ => ?_) ?_
  · have := hR V hV hW
    by_cases c3 : a1 < 1200
    · rw [if_pos c3] at this
      exact j_239t hT hE (by decide) c1 c3 h12 this
    · rw [if_neg c3, up_ne (by decide)] at this
      have a41 : a1 = 1200 := by omega
      rcases h01 with hb | hb
      · exact j_239r hT hE hb (by decide) c1 a41 h12 this
      · exfalso
        apply hS hb
        exact vS_n (by omega) (by omega) (by unfold gS; rw [if_neg c3])
  · show up_ Mx1 1 6 (o + 1) 5 3 = Mx 5 3
    rw [up_ne (by decide)]; exact h53
  · intro Mx' Mq' a' nn s' z' A' hz' hs' hx' hq' hnn hv hval hpre
    have A3 := AM_up (r := 210) (v := nn) A' (by decide) (rfl : Mq 6 75 = Mq 6 75)
    have hE' := AM_E A'
    refine hK _ (up_ Mq' 210 (Mq 6 75) nn) a' nn s' z' A3 hz' hs' hx' (QV_tr hq' QV_10) (by omega) (by rw [up_at]) hv (fun hb h0 hle => ?_) (fun R Qtq hR => hpre _ _ fun V hV hW => q_298e hV hW (ER_goq hE') hE'.2.2.2.2.2.2.2.1 h01 hk0 hR)
    rw [up_ne (by decide)] at h0
    have := hval hb h0 hle
    rw [up_ne (by decide)]
    exact VAL_c (fun i _ _ => by rw [up_ne (by decide), up_ne (by decide)]; exact ⟨rfl, rfl⟩) (QC_tb (QC_ur (by decide) (by decide))) (by omega) (fun _ => rfl) _ (by omega) (fun i _ _ => by rw [up_ne (by decide)]) (fun i _ _ => rfl) this
theorem v_158b [Inhabited gh_] (hn : n ≤ 12) (ho : o = 12 - (n : Int)) {x2 x3 x4 X2 X3 : Int} {w wq : Int → Int} (A : AM b F Mx Mq Mx1 Mq1 a a1 o s z) (hz : 8 ≤ z) (hs : s ≤ 0)
    (hX3 : X3 ≤ 3) (hk0 : 0 ≤ Mq 6 75 ∧ Mq 6 75 < 1300)
    (hw : ∀ j, 0 ≤ j → j < 3 → (-1 ≤ w j ∧ w j ≤ 2) ∧ -1 ≤ wq j ∧ (b = 1 → wq j = w j))
    (hX : ∀ j M, 0 ≤ j → j < 3 → XC Mx1 M → (j < X3 → (0 ≤ w32 (X2 + j) ∧ w32 (X2 + j) < 48) ∧ M 130 (w32 (X2 + j)) = w j ∧ 0 ≤ w j) ∧ (¬ j < X3 → w j = -1))
    (hF : ∀ (V : vv_) j M, 0 ≤ j → j < 3 → QV b Mq1 M → V 88 [rr 6, ii (Mq 6 75), ii x2, ii x3, ii x4, ii j, ii 1, ii (wq j + 1), none] [] M → F21 V (Mq 6 75) x2 x3 x4 j M)
    (h53 : Mx1 5 3 = Mx 5 3) (hS : b = 1 → vS (Mx 70) o a1 ≠ none)
    (hK : ∀ Mx' Mq' a' nn s' z', AM b F Mx Mq Mx' Mq' a a' o s' z' → 8 ≤ z' → s' ≤ 0 → XC Mx1 Mx' → QV b Mq1 Mq' → (0 ≤ nn ∧ nn ≤ 3) → Mq' 210 (Mq 6 75) = nn → vS (Mx 70) o a1 = some a'
          → (b = 1 → Mq' 6 13 = 0 → nn ≤ X3 → VAL Mx' Mq' (Mq 6 61) (Mq' 6 104) (fun i => w i + 1) (Mq 6 75) nn.toNat (Mx 5 3) (Mx' 5 3))
          → (∀ (R : mm_ → Prop) (Qtq : qt_), R (Qn_ Mq' b (k5v_ x3 nn) x4) → Tr_ wd0 pg0 (dq + 13) 298 [.inr (.inr 6), .inl (Mq 6 75), .inl x2, .inl x3, .inl x4] Mq1 (rv_ R) Qtq) → K nn Mx')
    (hQ : b = 0 → ∀ Mx', XA Mx Mx' → (∀ (R : mm_ → Prop) (Qtq : qt_), (∀ M', SQ Mx' Mq M' → R M') → Tr_ wd0 pg0 (dq + 13) 298 [.inr (.inr 6), .inl (Mq 6 75), .inl x2, .inl x3, .inl x4] Mq1 (rv_ R) Qtq) → Qt 8 Mx') :
    Tr_ wd0 pg0 (9 * n + 15) 158 [.inr (.inr 1), .inr (.inr 130), .inl X2, .inl X3] Mx1 (ri_ K) Qt := by
  have hE := AM_E A
  have hT := AM_T A
  have e70 := AM_70 A
  have e71 := AM_71 A
  have h01 := hE.2.2.2.2.2.2.2.2.1
  have h16 := hE.2.2.2.2.2.2.2.1
  have ha := ER_a hE
  by_cases c : Mx 70 a1 = 240
  rotate_left
  · -- no bracket
    refine t_158b fun V hV hW => b_158b_0 (Tr_mono _) hV hW X2 X3 Mx1 (y_117 hE (by decide) (fun e => absurd (by rw [← e70]; exact e) c) (fun k1 => ?_))
    rw [if_pos rfl]
    have A' := AM_up (r := 210) (v := 0) A (by decide) (rfl : Mq 6 75 = Mq 6 75)
    refine ri_i (hK _ (up_ Mq1 210 (Mq 6 75) 0) a1 0 s z A' hz hs XC_rf QV_10 (by decide) (by rw [up_at]) (by unfold vS; rw [if_neg c]) (fun _ _ _ => ?_) (fun R Qtq hR => ?_))
    · exact h53
    · refine t_298 fun V hV hW => b_298_0 (Tr_mono _) hV hW _ _ _ _ Mq1 (j_237f hT hE (by decide) k1 ?_)
      rw [if_pos rfl]
      exact q_298e hV hW (ER_goq hE) h16 h01 hk0 hR
  have c1 : Mx1 70 a1 = skk_ 40 := by rw [e70]; exact c
  have preB : ∀ (R : mm_ → Prop) (Qtq : qt_), (∀ V : vv_, Cl_ wd0 (Tr_ wd0 pg0 (dq + 12)) V (rv_ R) Qtq m_298 → Wk_ V → Tr_ wd0 pg0 (dq + 12) 239 [.inr (.inr 6), .inl 40] Mq1 (rv_ fun M2 => V 21 [rr 6, ii (Mq 6 75), ii x2, ii x3, ii x4, ii 0, ii 1, none, none] [] M2) Qtq) → Tr_ wd0 pg0 (dq + 13) 298 [.inr (.inr 6), .inl (Mq 6 75), .inl x2, .inl x3, .inl x4] Mq1 (rv_ R) Qtq := by
    intro R Qtq hR
    refine t_298 fun V hV hW => b_298_0 (Tr_mono _) hV hW _ _ _ _ Mq1 (j_237t hT hE (by decide) c1 ?_)
    rw [if_neg (by decide)]
    exact hR V hV hW
  have vse : o ≠ 12 → vS (Mx 70) o a1 = LPz (vS1 (Mx 70) o) (a1, 0) := fun h => by unfold vS; rw [if_pos c, if_neg h]
  by_cases ho12 : o = 12
  · refine Tr_le (d := 14) (by omega) ?_
    refine t_158b fun V hV hW => b_158b_0 (Tr_mono _) hV hW X2 X3 Mx1 (y_117 hE (by decide) (fun _ => ?_) (fun e => absurd c1 e))
    rw [if_neg (by decide)]
    refine y_118 hE (fun hb => by intro _; apply hS hb; unfold vS; rw [if_pos c, if_pos ho12]) (fun h _ => by omega) (fun hb _ => ?_)
    exact hQ hb _ (XA_tr (XC_XA (AM_X A)) (XF_XA fl_XF)) fun R Qtq hk9 => preB _ _ fun V hV hW => j_239o hT hE hb (by decide) c1 ho12 (q_298s hV hW (SQ_o hE hb (QC_QA (AM_Q A))).1 (hk9 _ (SQ_o hE hb (QC_QA (AM_Q A)))))
  obtain ⟨m, hm⟩ : ∃ m : Nat, n = m + 1 := ⟨n - 1, by omega⟩
  subst hm
  rw [vse ho12] at hS hK
  refine Tr_le (d := 9 * m + 15) (by omega) ?_
  refine t_158b fun V hV hW => b_158b_0 (Tr_mono _) hV hW X2 X3 Mx1 (y_117 hE (by decide) (fun _ => ?_) (fun e => absurd c1 e))
  rw [if_neg (by decide)]
  refine y_118 hE (fun hb => ho12) (fun h12 hE2 => ?_) (fun hb h => absurd h ho12)
  have A2 := AM_o A (o2 := o + 1) (by omega)
  refine l_158b (Mx := Mx) (Mq := Mq) (Mx1 := Mx1) (Mq1 := Mq1) (o := o) hn (by omega) (T := Mq 6 61) hX3 rfl hk0 hw hX hF hV hW hQ 3 0 (up_ Mx1 1 6 (o + 1)) (up_ Mq1 6 15 (o + 1)) a1 s z (by decide) (by decide) A2 (XC_u1 (by decide)) QV_15 (by omega) (by omega) hs (fun R Qtq hR => preB _ _ fun V hV hW => ?_) hS (fun _ _ _ => ?_) ?_
  · have := hR V hV hW
    by_cases c3 : a1 < 1200
    · rw [if_pos c3] at this
      exact j_239t hT hE (by decide) c1 c3 h12 this
    · rw [if_neg c3, up_ne (by decide)] at this
      have a41 : a1 = 1200 := by omega
      rcases h01 with hb | hb
      · exact j_239r hT hE hb (by decide) c1 a41 h12 this
      · exfalso
        apply hS hb
        exact vS_n (by omega) (by omega) (by unfold gS; rw [if_neg c3])
  · show up_ Mx1 1 6 (o + 1) 5 3 = Mx 5 3
    rw [up_ne (by decide)]; exact h53
  · intro Mx' Mq' a' nn s' z' A' hz' hs' hx' hq' hnn hv hval hpre
    have A3 := AM_up (r := 210) (v := nn) A' (by decide) (rfl : Mq 6 75 = Mq 6 75)
    have hE' := AM_E A'
    refine hK _ (up_ Mq' 210 (Mq 6 75) nn) a' nn s' z' A3 hz' hs' hx' (QV_tr hq' QV_10) (by omega) (by rw [up_at]) hv (fun hb h0 hle => ?_) (fun R Qtq hR => hpre _ _ fun V hV hW => q_298e hV hW (ER_goq hE') hE'.2.2.2.2.2.2.2.1 h01 hk0 hR)
    rw [up_ne (by decide)] at h0
    have := hval hb h0 hle
    rw [up_ne (by decide)]
    exact VAL_c (fun i _ _ => by rw [up_ne (by decide), up_ne (by decide)]; exact ⟨rfl, rfl⟩) (QC_tb (QC_ur (by decide) (by decide))) (by omega) (fun _ => rfl) _ (by omega) (fun i _ _ => by rw [up_ne (by decide)]) (fun i _ _ => rfl) this
end VW
end T117_va
section T118_gt
/-! tables of signals, routes and types that acts look at; what is sent and made -/
def SGT (Mx Mq : mm_) : Prop := sgl9 Mx Mq ∧ ∀ s : Int, 0 ≤ s → s < Mx 5 0 → (0 ≤ Mx 112 s ∧ Mx 112 s ≤ 3 ∧ Mq 156 s = Mx 112 s) ∧ ∀ i : Int, 0 ≤ i → i < Mx 112 s → 0 ≤ Mx 113 (3 * s + i) ∧ Mx 113 (3 * s + i) ≤ 2 ∧ Mq 157 (3 * s + i) = Mx 113 (3 * s + i) + 1
def PRT (b : Int) (Mx Mq : mm_) : Prop := tpl9 Mx Mq ∧ (∀ k : Int, 0 ≤ k → k < Mx 5 2 → 0 ≤ Mq 170 k ∧ Mq 170 k ≤ 3 ∧ ∀ i : Int, 0 ≤ i → i < Mq 170 k → 1 ≤ Mq 182 (8 * k + i) ∧ Mq 182 (8 * k + i) ≤ 3 ∧ Mq 183 (8 * k + i) = 0)
  ∧ (b = 1 → ∀ k : Int, 0 ≤ k → k < Mx 5 2 → Mx 122 k = Mq 170 k ∧ ∀ i : Int, 0 ≤ i → i < Mq 170 k → Mx 130 (8 * k + i) + 1 = Mq 182 (8 * k + i))
/-- p: the place of a token at or ahead of the one at hand -/
def RTT (b F : Int) (Mx Mq : mm_) (p : Int) : Prop := rtl9 Mx Mq ∧ (b = 1 → (∀ r : Int, 0 ≤ r → r < Mx 5 1 → Mx 114 (2 * r) = (if Mq 158 r = 0 then -2 else tpl Mq (Mq 158 r)) ∧ Mx 119 r = Mq 164 r ∧ 0 ≤ Mq 164 r ∧ Mq 164 r < 1048576)
  ∧ (0 ≤ Mq 6 61 ∧ Mq 6 61 < Mq 6 19 ∧ Mq 154 (Mq 6 61) ≠ 0) ∧ (tpl Mq (Mq 154 (Mq 6 61)) = Mq 6 61 ∨ F ≤ 8 * p))
def GT (b F : Int) (Mx Mq : mm_) (p : Int) : Prop := SGT Mx Mq ∧ PRT b Mx Mq ∧ RTT b F Mx Mq p
/-- where sent and made change -/
def SM (Mx MX : mm_) (w v : Int) : Prop := (MX = Mx ∧ (w ≠ 2 ∧ w ≠ 5 ∨ v = -1)) ∨ (w = 2 ∧ (0 ≤ v ∧ v < 20) ∧ MX = up_ Mx 1 21 (or_ (Mx 1 21) (sl_ 1 v))) ∨ (w = 5 ∧ (0 ≤ v ∧ v < 6) ∧ MX = up_ Mx 1 23 (or_ (Mx 1 23) (sl_ 1 v)))
section GT
variable {d dq n : Nat} {b F : Int} {Mx Mq MX MQ Mx1 Mq1 Mx2 Mq2 M : mm_} {a a1 o o1 s z p : Int} {K : Int → mm_ → Prop} {Kv G : mm_ → Prop} {Qt : qt_} {V : vv_}
theorem ER_X2 [Inhabited gh_] (h : ER b F Mx Mq a o) (h70 : Mx1 70 = Mx 70) (h1 : ∀ i : Int, 3 ≤ i → i ≤ 8 → Mx1 1 i = Mx 1 i) (h5 : Mx1 5 3 = Mx 5 3) (h19 : Mx1 1 19 = Mx 1 19) : ER b F Mx1 Mq a o := by
  unfold ER NR gd_ at *
  rw [h19, h70, h1 3 (by decide) (by decide), h1 4 (by decide) (by decide), h1 5 (by decide) (by decide), h1 6 (by decide) (by decide), h1 7 (by decide) (by decide), h1 8 (by decide) (by decide), h5]; exact h
theorem AM_bx [Inhabited gh_] {i v : Int} (hi : i = 21 ∨ i = 23) (h : AM b F Mx Mq Mx1 Mq1 a a1 o1 s z) : AM b F (up_ Mx 1 i v) Mq (up_ Mx1 1 i v) Mq1 a a1 o1 s z := by
  obtain ⟨h1, h2, h3, h4, h5, h6, h7, h8, h9, h10, h11, h12, h13⟩ := h
  have X : ∀ (M : mm_) (r : Nat), r ≠ 1 → up_ M 1 i v r = M r := fun M r a => up_ne a
  have I : ∀ (M : mm_) (j : Int), j ≠ 21 → j ≠ 23 → up_ M 1 i v 1 j = M 1 j := fun M j a b => up_off (by omega)
  have xa : XA Mx (up_ Mx 1 i v) := XA_u1 (by rcases hi with e | e <;> rw [e] <;> decide)
  obtain ⟨t1, t2, t3, t4, t5, t6⟩ := h1
  refine ⟨⟨Tks_a xa QA_rf t1, VT_a xa QA_rf t2, ?_, t4, t5, by rw [X _ 5 (by decide)]; exact t6⟩, h2, ⟨fun r hr => up_cg (h3.1 r hr), fun k hk => ?_, fun k hk => by rw [X _ 5 (by decide), X _ 5 (by decide)]; exact h3.2.2 k hk⟩, h4, ER_X2 h5 (X _ _ (by decide)) (fun j _ _ => I _ j (by omega) (by omega)) (by rw [X _ _ (by decide)]) (I _ 19 (by omega) (by omega)), h6, h7, by rw [X _ 5 (by decide), X _ 5 (by decide)]; exact h8, fun k x y => ?_, h10, h11, by rw [I _ 7 (by decide) (by decide), I _ 7 (by decide) (by decide)]; exact h12, h13⟩
  · rw [I _ 6 (by decide) (by decide)]
    exact ER_X2 t3 (X _ _ (by decide)) (fun j _ _ => I _ j (by omega) (by omega)) (by rw [X _ _ (by decide)]) (I _ 19 (by omega) (by omega))
  · by_cases c : k = i
    · rw [c, up_at, up_at]
    · rw [up_off c, up_off c]; exact h3.2.1 k hk
  · rw [X _ 5 (by decide)] at y
    rw [X _ 142 (by decide), X _ 142 (by decide)]; exact h9 k x y
/-- X alone notes what comes behind a fault of the first pass -/
theorem AM_mx [Inhabited gh_] {k tk : Int} (h : AM b F Mx Mq Mx1 Mq1 a a1 o1 s z) (hb : b = 1) (hk : 3 ≤ k ∧ k ≤ 6) (hg : gd_ Mx tk) (hz : 1 ≤ z) (hF : F ≤ 8 * Mx 71 tk + k) : AM b F Mx Mq (nt1_ Mx1 k tk) Mq1 a a1 o1 s (z - 1) := by
  have h71 := AM_71 h
  have hT := h.1.1
  obtain ⟨h1, h2, h3, h4, h5, h6, h7, h8, h9, h10, h11, h12, h13⟩ := h
  have hp := tk_p hT hg
  have b0 := h1.2.2.1.2.2.2.2.2.2.2.2.2.2.2.2.1
  refine ⟨h1, h2, XC_tr h3 (XF_XC nt1_XF), h4, ?_, h6, h7, by rw [nt1_r (by decide)]; exact h8, fun i x y => by rw [nt1_r (by decide)]; exact h9 i x y, h10, h11, by rw [nt1_7]; omega, h13⟩
  obtain ⟨e1, e2, e3, e4, e5, e6, e7, e8, e9, e10, e11, e12, e13, e14, e15⟩ := h5
  have n3 : ∀ i : Int, i ≠ 4 → i ≠ 5 → i ≠ 7 → nt1_ Mx1 k tk 1 i = Mx1 1 i := fun i a b c => nt1_1 a b c
  refine ⟨gd_c (nt1_r (by decide)) e1, by rw [n3 3 (by decide) (by decide) (by decide)]; exact e2, e3, by rw [n3 6 (by decide) (by decide) (by decide)]; exact e4, e5, e6, by rw [n3 8 (by decide) (by decide) (by decide)]; exact e7, e8, e9, e10, ?_, by rw [nt1_7]; omega, by rw [nt1_7]; omega, by rw [nt1_r (by decide)]; exact e14, by rw [nt1_r (by decide)]; exact e15⟩
  obtain ⟨n1, n2, n4, n5⟩ := e11
  have q := kk_nt1 (M := Mx1) (k := k) (t := tk) n1 (by omega) (by omega) (by rw [h71]; exact hp.1) (by rw [h71]; exact hp.2)
  refine ⟨q.2, n2, ?_, n5.1, by rw [n3 19 (by decide) (by decide) (by decide)]; exact n5.2⟩
  rw [q.1, n4, h71]
  omega
/-- the side of a route -/
theorem tpl_i [Inhabited gh_] (h9 : tpl9 Mx Mq) {v : Int} (h : tpl Mq v ≠ -1) : 0 ≤ tpl Mq v ∧ tpl Mq v < Mq 6 19 ∧ Mq 154 (tpl Mq v) = v := by
  have h0 := h9.1.1
  have e : Mq 6 19 = Mx 5 2 := h9.1.2.2
  rcases fi_r (fun i => Mq 154 (i)) v (Mq 6 19).toNat 0 with g | g
  · exact absurd g h
  · exact ⟨g.1, by have := g.2.1; unfold tpl; omega, g.2.2⟩
theorem side_e [Inhabited gh_] (h : GT b F Mx Mq p) (hb : b = 1) {r : Int} (hr : 0 ≤ r ∧ r < Mx 5 1) : (Mx 114 (2 * r) = Mq 6 61 ↔ Mq 158 r = Mq 154 (Mq 6 61)) ∨ (F ≤ 8 * p ∧ Mx 114 (2 * r) ≠ Mq 6 61) := by
  obtain ⟨g1, g2, g3⟩ := h
  obtain ⟨g4, g5, g6⟩ := g3.2 hb
  have e := (g4 r hr.1 hr.2).1
  have t9 := g2.1
  have fw : Mx 114 (2 * r) = Mq 6 61 → Mq 158 r = Mq 154 (Mq 6 61) ∧ tpl Mq (Mq 154 (Mq 6 61)) = Mq 6 61 := by
    intro h
    rw [e] at h
    by_cases c : Mq 158 r = 0
    · rw [if_pos c] at h; omega
    · rw [if_neg c] at h
      have q := (tpl_i t9 (v := Mq 158 r) (by omega)).2.2
      rw [h] at q
      exact ⟨q.symm, by rw [q]; exact h⟩
  by_cases c : tpl Mq (Mq 154 (Mq 6 61)) = Mq 6 61
  · refine .inl ⟨fun h => (fw h).1, fun h => ?_⟩
    rw [e, h, if_neg g5.2.2]; exact c
  · exact .inr ⟨g6.resolve_left c, fun h => c (fw h).2⟩
theorem Tr_297 [Inhabited gh_] {MQ : mm_} (hT : Tks Mx Mq) (hE : ER b F Mx Mq a o) (hk : Mx 70 a = 14) (hq : (a < 1200 ∧ MQ = nx_ Mq) ∨ (b = 0 ∧ a = 1200 ∧ MQ = bf_ Mq 2 (Mx 71 a))) (h : Tr_ wd0 pg0 (d + 3) 297 [.inr (.inr 6), .inl (Mx 71 a)] MQ (rv_ Kv) Qt) : Tr_ wd0 pg0 (d + 4) 296 [.inr (.inr 6)] Mq (rv_ Kv) Qt := by
  have hp0 : Mq 150 (Mq 6 12) = Mx 71 a := (ER_k hT hE).2.1
  refine t_296 fun V hV hW => b_296_0 (Tr_mono _) hV hW Mq ⟨(ER_k hT hE).2.2.1, ?_⟩
  rw [hp0]
  rcases hq with ⟨h12, e⟩ | ⟨hb, h12, e⟩
  · refine j_228t hT hE (by decide) hk h12 ?_
    rw [if_neg (by decide), ← e]; exact Tr_rv h
  · refine j_228r hT hE hb (by decide) hk h12 ?_
    rw [if_neg (by decide), ← e]; exact Tr_rv h
theorem Tr_301 [Inhabited gh_] {MQ : mm_} (hT : Tks Mx Mq) (hE : ER b F Mx Mq a o) (hk : Mx 70 a = 17) (hq : (a < 1200 ∧ MQ = nx_ Mq) ∨ (b = 0 ∧ a = 1200 ∧ MQ = bf_ Mq 2 (Mx 71 a))) (h : Tr_ wd0 pg0 (d + 3) 301 [.inr (.inr 6), .inl (Mx 71 a)] MQ (rv_ Kv) Qt) : Tr_ wd0 pg0 (d + 4) 296 [.inr (.inr 6)] Mq (rv_ Kv) Qt := by
  have hp0 : Mq 150 (Mq 6 12) = Mx 71 a := (ER_k hT hE).2.1
  refine t_296 fun V hV hW => b_296_0 (Tr_mono _) hV hW Mq ⟨(ER_k hT hE).2.2.1, ?_⟩
  rw [hp0]
  refine j_228f hT hE (by decide) (by omega) ?_
  rw [if_pos rfl]
  refine j_228f hT hE (by decide) (by omega) ?_
  rw [if_pos rfl]
  refine j_228f hT hE (by decide) (by omega) ?_
  rw [if_pos rfl]
  rcases hq with ⟨h12, e⟩ | ⟨hb, h12, e⟩
  · refine j_228t hT hE (by decide) hk h12 ?_
    rw [if_neg (by decide), ← e]; exact Tr_rv h
  · refine j_228r hT hE hb (by decide) hk h12 ?_
    rw [if_neg (by decide), ← e]; exact Tr_rv h
/-- X notes that a number of values is another one -/
theorem y_n5v [Inhabited gh_] {t r x3 q v kk : Int} {A : mm_ → Prop} (hE : ER b F Mx1 Mq1 a1 o1) (ht : 0 ≤ t ∧ t < 1202) (hq : (r = -1 ∧ q = -1) ∨ (r ≠ -1 ∧ (b = 1 → q = x3 ∧ 0 ≤ x3))) (hk : kk = k5v_ q v) (h : A (Xn_ Mx1 b kk t)) : bl_ (Mx1 1 8) → (if Mx1 1 8 = 0 then A Mx1 else (if r = -1 then A Mx1 else (if v = x3 then A Mx1 else Tr_ wd0 pg0 (d + 1) 116 [.inr (.inr 1), .inl 5, .inl t] Mx1 (rv_ A) Qt))) := by
  intro _
  have h8 := hE.2.2.2.2.2.2.1
  have h01 := hE.2.2.2.2.2.2.2.2.1
  unfold Xn_ at h
  unfold k5v_ at hk
  by_cases c : Mx1 1 8 = 0
  · rw [if_pos c]
    rw [if_pos (.inl (by omega))] at h; exact h
  · rw [if_neg c]
    by_cases c2 : r = -1
    · rw [if_pos c2]
      have : q < 0 ∨ v = q := by omega
      rw [if_pos this] at hk
      rw [if_pos (.inr hk)] at h; exact h
    · rw [if_neg c2]
      have hq2 : q = x3 ∧ 0 ≤ x3 := by
        rcases hq with e | e
        · exact absurd e.1 c2
        · exact e.2 (by omega)
      by_cases c3 : v = x3
      · rw [if_pos c3]
        have : q < 0 ∨ v = q := by omega
        rw [if_pos this] at hk
        rw [if_pos (.inr hk)] at h; exact h
      · rw [if_neg c3]
        have : ¬ (q < 0 ∨ v = q) := by omega
        rw [if_neg this] at hk
        rw [if_neg (by omega), hk] at h
        exact x_116 ht.1 ht.2 (ER_fl hE).1 (ER_fl hE).2 h
end GT
end T118_gt

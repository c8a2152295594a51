section T228_so
/-! sorts (X 119 | Q 241) -/
def srS (κ : Int → Int) (a : Int) : Option Int := if 28 ≤ κ a ∧ κ a ≤ 30 then gS a else none
section SRT
variable {d : Nat} {b F : Int} {Mx Mq : mm_} {a o : Int} {K : Int → mm_ → Prop} {Kv : mm_ → Prop} {Qt : qt_}
theorem y_119 [Inhabited gh_] (hE : ER b F Mx Mq a o) (hS : b = 1 → srS (Mx 70) a ≠ none) (hg : 28 ≤ Mx 70 a → Mx 70 a ≤ 30 → a < 1200 → ER b F (nX_ Mx) (nx_ Mq) (a + 1) o → K (Mx 70 a - 28) (nX_ Mx)) (hr : b = 0 → 28 ≤ Mx 70 a → Mx 70 a ≤ 30 → a = 1200 → Qt 8 (flX_ Mx 2 a)) (hw : b = 0 → ¬ (28 ≤ Mx 70 a ∧ Mx 70 a ≤ 30) → Qt 8 (flX_ Mx 1 a)) : Tr_ wd0 pg0 (d + 3) 119 [.inr (.inr 1), .inl 0] Mx (ri_ K) Qt := by
  have e13 : Mx 1 3 = a := hE.2.1
  have ha := ER_a hE
  have h01 := bl01 hE
  have bs : b = 1 → (28 ≤ Mx 70 a ∧ Mx 70 a ≤ 30) ∧ a < 1200 := fun hb => by
    have h := hS hb
    unfold srS at h
    by_cases c : 28 ≤ Mx 70 a ∧ Mx 70 a ≤ 30
    · rw [if_pos c] at h; exact ⟨c, gS_n h⟩
    · rw [if_neg c] at h; exact absurd rfl h
  refine x_119 (ER_iX hE) ?_ ?_ ?_
  · rw [e13]
    intro h1 h2 _ h12
    exact hg h1 h2 h12 (ER_go hE h12 (by omega)).1
  · rw [e13]
    intro h
    rcases h01 with hb | hb
    · exact hw hb h
    · exact absurd (bs hb).1 h
  · rw [e13]
    intro h1 h2 h3
    rcases h01 with hb | hb
    · exact hr hb h1 h2 (by omega)
    · have := (bs hb).2; omega
theorem q_241m [Inhabited gh_] {v : Int} (hT : Tks Mx Mq) (hE : ER b F Mx Mq a o) (hv : v = Mx 70 a - 27) (hk : 28 ≤ Mx 70 a ∧ Mx 70 a ≤ 30) (h : Tr_ wd0 pg0 (d + 2) 230 [.inr (.inr 6)] Mq (rv_ fun M1 => K v M1) Qt) : Tr_ wd0 pg0 (d + 3) 241 [.inr (.inr 6)] Mq (ri_ K) Qt := by
  have go := ER_goq hE
  have h' : ∀ w : Int, w = v → Tr_ wd0 pg0 (d + 2) 230 [.inr (.inr 6)] Mq (rv_ fun M1 => ri_ K [.inl w] M1) Qt := fun w hw => Tr_mono _ _ _ _ _ _ _ _ (fun vs M' ⟨e, k⟩ => ⟨e, by rw [hw]; exact ri_i k⟩) (fun _ _ h => h) h
  refine t_241 fun V hV hW => b_241_0 (Tr_mono _) hV hW _ ?_
  by_cases c1 : Mx 70 a = 28
  · refine j_229t hT hE (by decide) c1 ?_
    rw [if_neg (by decide)]
    refine q_227g go ?_
    rw [if_pos rfl, if_neg (by decide)]
    exact h' 1 (by omega)
  · refine j_229f hT hE (by decide) c1 ?_
    rw [if_pos rfl]
    by_cases c2 : Mx 70 a = 29
    · refine j_229t hT hE (by decide) c2 ?_
      rw [if_neg (by decide)]
      refine q_227g go ?_
      rw [if_pos rfl, if_neg (by decide)]
      exact h' 2 (by omega)
    · refine j_229f hT hE (by decide) c2 ?_
      rw [if_pos rfl]
      refine j_229t hT hE (by decide) (show Mx 70 a = 30 by omega) ?_
      rw [if_neg (by decide)]
      refine q_227g go ?_
      rw [if_pos rfl, if_neg (by decide)]
      exact h' 3 (by omega)
theorem j_241t [Inhabited gh_] (hT : Tks Mx Mq) (hE : ER b F Mx Mq a o) (hk : 28 ≤ Mx 70 a ∧ Mx 70 a ≤ 30) (h12 : a < 1200) (h : K (Mx 70 a - 27) (nx_ Mq)) : Tr_ wd0 pg0 (d + 3) 241 [.inr (.inr 6)] Mq (ri_ K) Qt := by
  have kq := ER_k hT hE
  exact q_241m hT hE rfl hk (q_230g (ER_goq hE) kq.2.2.2.1 (kq.2.2.2.2.1 h12) h)
theorem j_241r [Inhabited gh_] (hT : Tks Mx Mq) (hE : ER b F Mx Mq a o) (hb : b = 0) (hk : 28 ≤ Mx 70 a ∧ Mx 70 a ≤ 30) (h12 : a = 1200) (h : ∀ v, K v (bf_ Mq 2 (Mx 71 a))) : Tr_ wd0 pg0 (d + 3) 241 [.inr (.inr 6)] Mq (ri_ K) Qt := by
  have kq := ER_k hT hE
  refine q_241m hT hE rfl hk (q_230r (ER_ok hE hb) (kq.2.2.2.2.2 h12) ?_)
  rw [kq.2.1]; exact h _
theorem j_241w [Inhabited gh_] (hT : Tks Mx Mq) (hE : ER b F Mx Mq a o) (hb : b = 0) (hk : ¬ (28 ≤ Mx 70 a ∧ Mx 70 a ≤ 30)) (h : K 0 (bf_ Mq 1 (Mx 71 a))) : Tr_ wd0 pg0 (d + 3) 241 [.inr (.inr 6)] Mq (ri_ K) Qt := by
  refine t_241 fun V hV hW => b_241_0 (Tr_mono _) hV hW _ ?_
  refine j_229f hT hE (by decide) (by omega) ?_
  rw [if_pos rfl]
  refine j_229f hT hE (by decide) (by omega) ?_
  rw [if_pos rfl]
  refine j_229f hT hE (by decide) (by omega) ?_
  rw [if_pos rfl]
  refine q_227g (ER_goq hE) ?_
  rw [if_pos rfl, if_pos (by decide)]
  exact j_234 hT hE hb (ri_i h)
theorem q_229s [Inhabited gh_] {x : Int} {N : mm_} (hi : in9_ N) (h : ∀ v, K v N) : Tr_ wd0 pg0 (d + 1) 229 [.inr (.inr 6), .inl x] N (ri_ K) Qt := by
  by_cases c : N 149 (N 6 12) = 4 ∧ N 151 (N 6 12) = x
  · exact q_229t hi c.1 c.2 (h 1)
  · exact q_229f hi c (h 0)
theorem q_241s [Inhabited gh_] {N : mm_} (hs : sp_ N) (hi : in9_ N) (h : K 0 N) : Tr_ wd0 pg0 (d + 3) 241 [.inr (.inr 6)] N (ri_ K) Qt := by
  refine t_241 fun V hV hW => b_241_0 (Tr_mono _) hV hW _ ?_
  refine q_229s hi fun v1 => ?_
  by_cases c1 : v1 = 0
  · rw [if_pos c1]
    refine q_229s hi fun v2 => ?_
    by_cases c2 : v2 = 0
    · rw [if_pos c2]
      refine q_229s hi fun v3 => ?_
      by_cases c3 : v3 = 0
      · rw [if_pos c3]; exact q_227s hs (by rw [if_neg (by decide)]; exact ri_i h)
      · rw [if_neg c3]; exact q_227s hs (by rw [if_neg (by decide)]; exact ri_i h)
    · rw [if_neg c2]; exact q_227s hs (by rw [if_neg (by decide)]; exact ri_i h)
  · rw [if_neg c1]; exact q_227s hs (by rw [if_neg (by decide)]; exact ri_i h)
end SRT
end T228_so
section T229_pr
/-! parameters of a process: commuting steps, pass 2's own, the count -/
section PA
variable {b F : Int} {M N N' M1 N1 : mm_} {a t n s z v : Int}
theorem vN_q1 [Inhabited gh_] : vN_ (q1_ N) n t = q1_ (vN_ N n t) := by
  unfold vN_
  rw [q1_6 (by decide), q1_r (by decide), q1_r (by decide), q1_r (by decide)]
  unfold q1_
  rw [up_cc (r := 6) (r' := 177) (.inl (by decide)), up_cc (r := 6) (r' := 181) (.inl (by decide)), up_cc (r := 6) (r' := 171) (.inl (by decide))]
theorem vH_q1 [Inhabited gh_] : vH_ (q1_ N) n s z = q1_ (vH_ N n s z) := by
  unfold vH_
  rw [q1_6 (by decide), q1_r (by decide)]
  unfold q1_
  rw [up_cc (r := 6) (r' := 182) (.inl (by decide)), up_cc (r := 6) (r' := 183) (.inl (by decide)), up_cc (r := 6) (r' := 184) (.inl (by decide)), up_cc (r := 6) (r' := 172) (.inl (by decide))]
theorem vN_nx [Inhabited gh_] : vN_ (nx_ N) n t = nx_ (vN_ N n t) := by
  have e : vN_ N n t 6 12 = N 6 12 := by unfold vN_; rw [up_ne (by decide), up_ne (by decide), up_ne (by decide)]
  have e2 : nx_ (vN_ N n t) = up_ (vN_ N n t) 6 12 (N 6 12 + 1) := by unfold nx_; rw [e]
  rw [e2]
  unfold vN_
  rw [nx_6 (by decide), nx_ne (by decide), nx_ne (by decide), nx_ne (by decide)]
  unfold nx_
  rw [up_cc (r := 6) (r' := 177) (.inl (by decide)), up_cc (r := 6) (r' := 181) (.inl (by decide)), up_cc (r := 6) (r' := 171) (.inl (by decide))]
theorem nd_o1 [Inhabited gh_] : nd_ (o1_ M) (q1_ N) t = o1_ (nd_ M N t) := by
  unfold nd_
  rw [q1_r (by decide), vrr_c q1_QF, tmr_c q1_QF]
  split
  · rfl
  · exact nt1_o1
theorem vX_o1 [Inhabited gh_] : vX_ (o1_ M) t s z = o1_ (vX_ M t s z) := by
  unfold vX_
  rw [o1_1 (by decide), o1_r (by decide), o1_r (by decide)]
  unfold o1_
  rw [up_cc (r := 1) (r' := 60) (.inl (by decide)), up_cc (r := 1) (r' := 130) (.inl (by decide)), up_cc (r := 1) (r' := 131) (.inl (by decide)), up_cc (r := 1) (r' := 132) (.inl (by decide)), up_cc (r := 1) (r' := 125) (.inl (by decide)), up_cc (r := 1) (r' := 124) (.inl (by decide))]
theorem up_q1 [Inhabited gh_] {r : Nat} {i v : Int} (h : r ≠ 6) : up_ (q1_ N) r i v = q1_ (up_ N r i v) := by
  unfold q1_; rw [up_cc (.inl (fun e => h e.symm))]
theorem OWM_q1 [Inhabited gh_] : OWM (q1_ N) t ↔ OWM N t := by
  unfold OWM
  rw [q1_6 (by decide), q1_r (r := 171) (by decide), q1_r (r := 177) (by decide), q1_r (r := 151) (by decide), q1_r (r := 181) (by decide), q1_r (r := 150) (by decide), q1_r (r := 173) (by decide), q1_r (r := 178) (by decide), q1_r (r := 185) (by decide)]
theorem OWI_q1 [Inhabited gh_] (h : OWI (q1_ N) t N') : ∃ N2, N' = q1_ N2 ∧ OWI N t N2 := by
  rcases h with h | ⟨h, m⟩
  · exact ⟨N, h, .inl rfl⟩
  · refine ⟨nt_ N 3 (N 150 t), ?_, .inr ⟨rfl, OWM_q1.1 m⟩⟩
    rw [h, q1_r (by decide), nt_q1]
theorem nt_QN [Inhabited gh_] {k p : Int} : QN N (nt_ N k p) := ⟨fun r h => ntQ_r h, fun i _ h1 h2 => ntQ_6 h1 h2⟩
/-- Q's note TWICE of pass 2, X's stood in pass 1 -/
theorem STA_nq [Inhabited gh_] {p ee : Int} (h : STA b F M N a ee) (hb : b = 1) (hp0 : 0 ≤ p ∧ p ≤ 5000) (hF : F ≤ 8 * p + 3) : STA b F M (nt_ N 3 p) a ee := by
  obtain ⟨h1, ⟨s1, s2, s3⟩, h4⟩ := h
  have hE := ER_nq (k := 3) (TS_E h1) hb (by decide) hp0 hF
  have t5 := h1.1.2.2.2.2.1
  have n2 := h1.2.2.2.2.2.2.2.2.2
  have q : ∀ i : Int, i ≠ 13 → i ≠ 14 → nt_ N 3 p 6 i = N 6 i := fun i h1 h2 => ntQ_6 h1 h2
  refine ⟨TS_w h1 XF_rf (QG_QF (QN_QF nt_QN)) hE (Int.le_refl _) (by rw [q 104 (by decide) (by decide)]; exact t5) n2 h1.2.2.2.2.2.1, ⟨s1, by rw [q 62 (by decide) (by decide)]; exact s2, by rw [q 63 (by decide) (by decide)]; exact s3⟩, fun hb => ?_⟩
  obtain ⟨⟨xs, hs⟩, hl⟩ := h4 hb
  refine ⟨⟨xs, SRW_a hs XA_rf (QF_QA (QN_QF nt_QN))⟩, fun h => ?_⟩
  rw [q 62 (by decide) (by decide), q 63 (by decide) (by decide), ntQ_r (by decide)]
  rw [q 62 (by decide) (by decide)] at h; exact hl h
theorem OWM_F [Inhabited gh_] (hT : Tks M N) (hV : VT M N) (h2 : TBL F M N (M 1 18)) (ht : nm9_ M t) (hd : DCL M (M 1 18) t) (hm : OWM N t) : F ≤ 8 * N 150 t + 3 := by
  have v := hV.2
  have pt : N 150 t = M 71 t := (hT t ht.1).2.1.symm
  have lt : ∀ u, nm9_ M u → M 71 u < M 71 t → u < t := fun u hu hl => by
    by_cases c : u < t
    · exact c
    · exfalso
      by_cases e : u = t
      · rw [e] at hl; omega
      · have := (hT u hu.1).2.2.2.2.1 t ht.1 (by omega); omega
  rw [pt]
  rcases hm with ⟨k, hk, e1, e2⟩ | ⟨k, hk, e1, e2⟩
  · rw [v.1] at hk e1 e2
    rw [v.2.2.2.1.2.2] at hk
    have r := v.2.2.2.2.2.1 k hk.1 hk.2
    have p := (h2.2.1 k hk.1 hk.2).2
    rw [pt, p] at e2
    rw [r.2.1] at e1
    exact h2.2.2.2 _ t (.inl ⟨k, hk, rfl⟩) hd e1 (lt _ r.1 e2)
  · rw [v.1] at hk e1 e2
    rw [v.2.2.2.2.1.2.2] at hk
    have r := v.2.2.2.2.2.2 k hk.1 hk.2
    have p := h2.2.2.1 k hk.1 hk.2
    rw [pt, p] at e2
    rw [r.2] at e1
    exact h2.2.2.2 _ t (.inr ⟨k, hk, rfl⟩) hd e1 (lt _ r.1 e2)
theorem HDR_ow [Inhabited gh_] (h : HDR b F M N a) (hb : b = 1) (ht : nm9_ M t) (hd : DCL M (M 1 18) t) (ho : OWI N t N') : HDR b F M N' a := by
  obtain ⟨h1, h2, h3, h4⟩ := h
  have hT := h1.1.1.1
  have hp := (hT t ht.1).2.2.2.1
  have pt : N 150 t = M 71 t := (hT t ht.1).2.1.symm
  refine ⟨?_, TBL_c h2 (fun _ _ => rfl) (fun r hr => OWI_r ho (fun c => by rw [c] at hr; revert hr; decide)), h3, HDG_c h4 (fun _ _ => rfl) (OWI_r ho (by decide))⟩
  rcases ho with e | ⟨e, m⟩
  · rw [e]; exact h1
  · rw [e]; exact STA_nq h1 hb (by omega) (OWM_F hT h1.1.1.2.1 h2 ht hd m)
theorem HDR_170 [Inhabited gh_] (h : HDR b F M N a) (hb : b = 0) (hn : 0 ≤ n ∧ n < 3) (hT5 : True) (hs : 1 ≤ N 182 (8 * M 1 18 + n) ∧ N 182 (8 * M 1 18 + n) ≤ 3 ∧ N 183 (8 * M 1 18 + n) = 0) (hp : N 170 (M 1 18) = n) : HDR b F M (up_ N 170 (M 1 18) (n + 1)) a := by
  obtain ⟨h1, h2, h3, h4⟩ := h
  have q : ∀ r : Nat, r ≠ 170 → up_ N 170 (M 1 18) (n + 1) r = N r := fun r h => up_ne h
  have hTS := h1.1
  have q6 := q 6 (by decide)
  have hE := TS_E hTS
  refine ⟨⟨TS_mk hTS (Tks_r hTS.1.1 (fun _ _ => rfl) (fun r hr => q r (fun e => by rw [e] at hr; revert hr; decide))) ?_ (ER_Q hE (by rw [q6]) (by rw [q6]) (by rw [q6]) (by rw [q6]) (by rw [q6])) ?_ ?_ ?_ (fun _ _ => rfl) hTS.2.2.2.2.2.1 rfl (fun i _ => by rw [q6]), by rw [q6]; exact h1.2.1, fun hb1 => by omega⟩, TBL_c h2 (fun _ _ => rfl) (fun r hr => q r (fun e => by rw [e] at hr; revert hr; decide)), h3, HDG_c h4 (fun _ _ => rfl) (q 151 (by decide))⟩
  · have hV := hTS.1.2.1
    unfold VT at hV ⊢
    rw [q6, q 171 (by decide), q 173 (by decide), q 177 (by decide), q 182 (by decide), q 183 (by decide), q 184 (by decide), q 178 (by decide), q 151 (by decide)]
    exact hV
  · obtain ⟨⟨g1, g2⟩, ⟨g3, g4, g5⟩, g6, g7⟩ := hTS.2.1
    unfold GT SGT PRT RTT sgl9 tpl9 rtl9
    rw [q6, q 152 (by decide), q 151 (by decide), q 156 (by decide), q 157 (by decide), q 154 (by decide), q 153 (by decide), q 182 (by decide), q 183 (by decide), q 158 (by decide), q 164 (by decide)]
    refine ⟨⟨g1, g2⟩, ⟨g3, fun k k0 k1 => ?_, fun hb1 => by omega⟩, g6, fun hb1 => by omega⟩
    by_cases c : k = M 1 18
    · rw [c, up_at]
      refine ⟨by omega, by omega, fun i i0 i1 => ?_⟩
      by_cases ci : i = n
      · rw [ci]; exact hs
      · rw [c] at k0 k1
        exact (g4 (M 1 18) k0 k1).2.2 i i0 (by omega)
    · rw [up_of2 c]; exact g4 k k0 k1
  · have hL := hTS.2.2.1
    unfold LBT LBG lbl9 at hL ⊢
    rw [q 175 (by decide), q 180 (by decide), q 187 (by decide), q 151 (by decide)]; exact hL
  · have h9 := hTS.2.2.2.1
    unfold stt9 at h9 ⊢
    rw [q 174 (by decide), q 179 (by decide), q 151 (by decide)]; exact h9
end PA
end T229_pr
section T230_pr
/-! the head of a process: frames -/
def xpL : List Nat := [1, 5, 55, 56, 57, 58, 59, 60, 61, 62, 63, 64, 65, 66, 67, 68, 112, 113, 114, 115, 116, 117, 118, 119, 120, 121, 122, 123, 124, 125, 126, 127, 128, 129, 130, 131, 132, 133, 134, 135, 136, 137, 138, 139, 140, 141, 142, 143, 144]
def qpI : List Int := [12, 13, 14, 15, 16, 17, 18, 19, 58, 61, 62, 63, 75, 76, 90, 102, 103, 104, 107, 108, 109, 112, 116, 118]
def QPRr (r : Nat) : Prop := r = 6 ∨ (152 ≤ r ∧ r ≤ 234)
/-- all that a parse may change -/
def XPb (M M' : mm_) : Prop := Fr_ xpL M M'
def QPb (N N' : mm_) : Prop := (∀ r : Nat, ¬ QPRr r → N' r = N r) ∧ ∀ i : Int, i ∉ qpI → N' 6 i = N 6 i
def SQp [Inhabited gh_] (Mx' N N' : mm_) : Prop := sp_ N' ∧ in9_ N' ∧ N' 6 13 = Mx' 1 4 ∧ P14 Mx' N' ∧ QPb N N'
def vxL : List Nat := [60, 61, 124, 125, 126, 130, 131, 132]
def vqL : List Nat := [170, 171, 172, 173, 177, 178, 181, 182, 183, 184, 185]
/-- rows of other types stay -/
def PHR (T : Int) (M N M' N' : mm_) : Prop := (∀ i, i ≠ T → (M' 124 i = M 124 i ∧ M' 125 i = M 125 i ∧ M' 126 i = M 126 i) ∧ N' 170 i = N 170 i ∧ N' 171 i = N 171 i ∧ N' 172 i = N 172 i ∧ N' 173 i = N 173 i)
  ∧ (∀ i, i < 8 * T ∨ 8 * T + 8 ≤ i → (M' 60 i = M 60 i ∧ M' 130 i = M 130 i ∧ M' 131 i = M 131 i ∧ M' 132 i = M 132 i) ∧ N' 177 i = N 177 i ∧ N' 181 i = N 181 i ∧ N' 182 i = N 182 i ∧ N' 183 i = N 183 i ∧ N' 184 i = N 184 i)
  ∧ (∀ i, i < 3 * T ∨ 3 * T + 3 ≤ i → M' 61 i = M 61 i ∧ N' 178 i = N 178 i ∧ N' 185 i = N 185 i)
/-- in pass 2: Q's fault comes no later; names told twice between the two places are noted, but those of x -/
def PHD (x : Int → Prop) (b : Int) (M N M' N' : mm_) : Prop := M 1 3 ≤ M' 1 3 ∧ (b = 0 → ∀ u, DCL M' (M 1 18) u → DCL M (M 1 18) u ∨ M 1 3 ≤ u ∨ x u) ∧ (b = 1 → (kk_ (N' 6 13) (N' 6 14) ≤ kk_ (N 6 13) (N 6 14)) ∧ ∀ u v, DCL M (M 1 18) u → DCL M (M 1 18) v → u < v → N 151 u = N 151 v → M 1 3 ≤ v → v < M' 1 3 → ¬ x v → kk_ (N' 6 13) (N' 6 14) ≤ 8 * M 71 v + 3)
def PHFx (x : Int → Prop) (b F F' : Int) (M N M' N' : mm_) : Prop := ((∀ r : Nat, r ≠ 1 → r ∉ vxL → M' r = M r) ∧ (∀ i : Int, i ∉ [3, 4, 5, 6, 7] → M' 1 i = M 1 i) ∧ (∀ r : Nat, r ≠ 6 → r ∉ vqL → N' r = N r) ∧ (∀ i : Int, i ∉ [12, 13, 14, 15] → N' 6 i = N 6 i)) ∧ PHR (M 1 18) M N M' N' ∧ (b = 1 → (∀ r : Nat, r ≠ 1 → M' r = M r) ∧ (∀ r : Nat, r ≠ 6 → N' r = N r) ∧ (N' 6 13 = 0 → N 6 13 = 0)) ∧ F' ≤ F ∧ (b = 1 → F' = F) ∧ (∀ u, DCL M (M 1 18) u → DCL M' (M 1 18) u) ∧ PHD x b M N M' N'
def PHF (b F F' : Int) (M N M' N' : mm_) : Prop := PHFx (fun _ => False) b F F' M N M' N'
/-- a name told twice is noted -/
def ONT (b : Int) (M N' : mm_) (t : Int) : Prop := b = 1 → ∀ u, DCL M (M 1 18) u → u < t → N' 151 u = N' 151 t → kk_ (N' 6 13) (N' 6 14) ≤ 8 * M 71 t + 3
section PH
variable {b F F' F2 : Int} {M N N' M' M1 N1 M2 N2 : mm_} {a t n s z v T : Int}
theorem XPb_tr [Inhabited gh_] (h1 : XPb M M1) (h2 : XPb M1 M2) : XPb M M2 := Fr_tr h1 h2
theorem XPb_rf [Inhabited gh_] : XPb M M := Fr_rf
theorem QPb_rf [Inhabited gh_] : QPb N N := ⟨fun _ _ => rfl, fun _ _ => rfl⟩
theorem QPb_tr [Inhabited gh_] (h1 : QPb N N1) (h2 : QPb N1 N2) : QPb N N2 := ⟨fun r h => (h2.1 r h).trans (h1.1 r h), fun i h => (h2.2 i h).trans (h1.2 i h)⟩
theorem XSb_P [Inhabited gh_] (h : XSb M M1) : XPb M M1 := Fr_sub h.1 (by decide)
theorem QSb_P [Inhabited gh_] (h : QSb N N1) : QPb N N1 := ⟨fun r hr => h.1 r (fun e => hr (by revert e; unfold qbL QPRr; simp only [List.mem_cons, List.not_mem_nil, or_false]; omega)), fun i hi => h.2 i (fun e => hi (by revert e; unfold qbI qpI; simp only [List.mem_cons, List.not_mem_nil, or_false]; omega))⟩
theorem SQb_P [Inhabited gh_] (h : SQb M N N1) : SQp M N N1 := ⟨h.1, h.2.1, h.2.2.1, h.2.2.2.1, QSb_P h.2.2.2.2⟩
theorem SQ_P [Inhabited gh_] (h : SQ M N N1) : SQp M N N1 := ⟨h.1, h.2.1, h.2.2.1, h.2.2.2.1, QSb_P (QA_QSb h.2.2.2.2)⟩
theorem SQp_tr [Inhabited gh_] (h1 : QPb N N1) (h : SQp M N1 N2) : SQp M N N2 := ⟨h.1, h.2.1, h.2.2.1, h.2.2.2.1, QPb_tr h1 h.2.2.2.2⟩
theorem XF_P [Inhabited gh_] (h : XF M M1) : XPb M M1 := XSb_P (XA_XSb (XF_XA h))
theorem QF_P [Inhabited gh_] (h : QF N N1) : QPb N N1 := QSb_P (QA_QSb (QF_QA h))
theorem PHR_rf [Inhabited gh_] : PHR T M N M N := ⟨fun _ _ => ⟨⟨rfl, rfl, rfl⟩, rfl, rfl, rfl, rfl⟩, fun _ _ => ⟨⟨rfl, rfl, rfl, rfl⟩, rfl, rfl, rfl, rfl, rfl⟩, fun _ _ => ⟨rfl, rfl, rfl⟩⟩
theorem PHR_tr [Inhabited gh_] (h1 : PHR T M N M1 N1) (h2 : PHR T M1 N1 M2 N2) : PHR T M N M2 N2 := by
  obtain ⟨a1, a2, a3⟩ := h1
  obtain ⟨b1, b2, b3⟩ := h2
  refine ⟨fun i hi => ?_, fun i hi => ?_, fun i hi => ?_⟩
  · obtain ⟨⟨x1, x2, x3⟩, x4, x5, x6, x7⟩ := a1 i hi
    obtain ⟨⟨y1, y2, y3⟩, y4, y5, y6, y7⟩ := b1 i hi
    exact ⟨⟨y1.trans x1, y2.trans x2, y3.trans x3⟩, y4.trans x4, y5.trans x5, y6.trans x6, y7.trans x7⟩
  · obtain ⟨⟨x1, x2, x3, x8⟩, x4, x5, x6, x7, x9⟩ := a2 i hi
    obtain ⟨⟨y1, y2, y3, y8⟩, y4, y5, y6, y7, y9⟩ := b2 i hi
    exact ⟨⟨y1.trans x1, y2.trans x2, y3.trans x3, y8.trans x8⟩, y4.trans x4, y5.trans x5, y6.trans x6, y7.trans x7, y9.trans x9⟩
  · obtain ⟨x1, x2, x3⟩ := a3 i hi
    obtain ⟨y1, y2, y3⟩ := b3 i hi
    exact ⟨y1.trans x1, y2.trans x2, y3.trans x3⟩
theorem PHFx_tr [Inhabited gh_] {x : Int → Prop} (h1 : PHFx x b F F' M N M1 N1) (h2 : PHFx x b F' F2 M1 N1 M2 N2) : PHFx x b F F2 M N M2 N2 := by
  obtain ⟨⟨a1, a2, a3, a4⟩, a5, a6, a7, a8, a9, m1, d1, a10⟩ := h1
  obtain ⟨⟨b1, b2, b3, b4⟩, b5, b6, b7, b8, b9, m2, d2, b10⟩ := h2
  rw [a2 18 (by decide)] at b5 b9 d2
  refine ⟨⟨fun r x y => (b1 r x y).trans (a1 r x y), fun i x => (b2 i x).trans (a2 i x), fun r x y => (b3 r x y).trans (a3 r x y), fun i x => (b4 i x).trans (a4 i x)⟩, PHR_tr a5 b5, fun hb => ⟨fun r x => ((b6 hb).1 r x).trans ((a6 hb).1 r x), fun r x => ((b6 hb).2.1 r x).trans ((a6 hb).2.1 r x), fun e => (a6 hb).2.2 ((b6 hb).2.2 e)⟩, by omega, fun hb => (b8 hb).trans (a8 hb), fun u hu => b9 u (a9 u hu), by omega, fun hb u hu => ?_, fun hb => ?_⟩
  · rcases d2 hb u hu with h | h | h
    · exact d1 hb u h
    · exact .inr (.inl (by omega))
    · exact .inr (.inr h)
  obtain ⟨k1, k2⟩ := a10 hb
  obtain ⟨l1, l2⟩ := b10 hb
  have r := (a6 hb).1
  refine ⟨Int.le_trans l1 k1, fun u v hu hv huv he h3 h4 hx => ?_⟩
  by_cases c : v < M1 1 3
  · exact Int.le_trans l1 (k2 u v hu hv huv he h3 c hx)
  · have := l2 u v (by rw [a2 18 (by decide)]; exact (DCL_c (r _ (by decide)) (r _ (by decide)) (r _ (by decide)) (r _ (by decide))).2 hu) (by rw [a2 18 (by decide)]; exact (DCL_c (r _ (by decide)) (r _ (by decide)) (r _ (by decide)) (r _ (by decide))).2 hv) huv (by rw [(a6 hb).2.1 151 (by decide)]; exact he) (by omega) h4 hx
    rw [r 71 (by decide)] at this; exact this
theorem PHF_tr [Inhabited gh_] (h1 : PHF b F F' M N M1 N1) (h2 : PHF b F' F2 M1 N1 M2 N2) : PHF b F F2 M N M2 N2 := PHFx_tr h1 h2
theorem PHFx_w [Inhabited gh_] {x : Int → Prop} (h : PHF b F F' M N M1 N1) : PHFx x b F F' M N M1 N1 := ⟨h.1, h.2.1, h.2.2.1, h.2.2.2.1, h.2.2.2.2.1, h.2.2.2.2.2.1, h.2.2.2.2.2.2.1, fun hb u hu => ((h.2.2.2.2.2.2.2.1 hb u hu).imp id fun c => .inl (c.resolve_right fun e => e)), fun hb => ⟨(h.2.2.2.2.2.2.2.2 hb).1, fun u v a1 a2 a3 a4 a5 a6 _ => (h.2.2.2.2.2.2.2.2 hb).2 u v a1 a2 a3 a4 a5 a6 (fun e => e)⟩⟩
theorem PHFx_m [Inhabited gh_] {x y : Int → Prop} (h : PHFx x b F F' M N M1 N1) (hx : ∀ v, x v → y v) : PHFx y b F F' M N M1 N1 := ⟨h.1, h.2.1, h.2.2.1, h.2.2.2.1, h.2.2.2.2.1, h.2.2.2.2.2.1, h.2.2.2.2.2.2.1, fun hb u hu => ((h.2.2.2.2.2.2.2.1 hb u hu).imp id fun c => c.imp id (hx u)), fun hb => ⟨(h.2.2.2.2.2.2.2.2 hb).1, fun u v a1 a2 a3 a4 a5 a6 hn => (h.2.2.2.2.2.2.2.2 hb).2 u v a1 a2 a3 a4 a5 a6 (fun e => hn (hx v e))⟩⟩
/-- the name that was left is noted -/
theorem PHFx_on [Inhabited gh_] {x : Int → Prop} (h : PHFx x b F F' M N M1 N1) (h0 : b = 0 → ∀ v, x v → M 1 3 ≤ v) (ho : b = 1 → ∀ v, x v → ONT b M N1 v) : PHF b F F' M N M1 N1 := by
  refine ⟨h.1, h.2.1, h.2.2.1, h.2.2.2.1, h.2.2.2.2.1, h.2.2.2.2.2.1, h.2.2.2.2.2.2.1, fun hb u hu => ?_, fun hb => ⟨(h.2.2.2.2.2.2.2.2 hb).1, fun u v a1 a2 a3 a4 a5 a6 _ => ?_⟩⟩
  · rcases h.2.2.2.2.2.2.2.1 hb u hu with c | c | c
    · exact .inl c
    · exact .inr (.inl c)
    · exact .inr (.inl (h0 hb u c))
  by_cases c : x v
  · exact ho hb v c hb u a1 a3 (by rw [(h.2.2.1 hb).2.1 151 (by decide)]; exact a4)
  · exact (h.2.2.2.2.2.2.2.2 hb).2 u v a1 a2 a3 a4 a5 a6 c
theorem PHFx_0 [Inhabited gh_] {x : Int → Prop} (hx : ∀ r : Nat, r ≠ 1 → M1 r = M r) (h1 : ∀ i : Int, i ∉ [3, 4, 5, 6, 7] → M1 1 i = M 1 i) (hq : ∀ r : Nat, r ≠ 6 → N1 r = N r) (h6 : ∀ i : Int, i ∉ [12, 13, 14, 15] → N1 6 i = N 6 i) (h13 : b = 1 → N1 6 13 = 0 → N 6 13 = 0)
    (hk : b = 1 → kk_ (N1 6 13) (N1 6 14) ≤ kk_ (N 6 13) (N 6 14)) (h3 : M 1 3 ≤ M1 1 3) (hp : b = 1 → ∀ v, DCL M (M 1 18) v → M 1 3 ≤ v → v < M1 1 3 → x v) : PHFx x b F F M N M1 N1 := by
  refine ⟨⟨fun r x _ => hx r x, h1, fun r x _ => hq r x, h6⟩, ?_, fun hb => ⟨hx, hq, h13 hb⟩, Int.le_refl _, fun _ => rfl, fun u hu => (DCL_c (hx _ (by decide)) (hx _ (by decide)) (hx _ (by decide)) (hx _ (by decide))).2 hu, h3, fun _ u hu => .inl ((DCL_c (hx _ (by decide)) (hx _ (by decide)) (hx _ (by decide)) (hx _ (by decide))).1 hu), fun hb => ⟨hk hb, fun u v _ hv _ _ a5 a6 hn => absurd (hp hb v hv a5 a6) hn⟩⟩
  unfold PHR
  rw [hx 124 (by decide), hx 125 (by decide), hx 126 (by decide), hx 60 (by decide), hx 130 (by decide), hx 131 (by decide), hx 132 (by decide), hx 61 (by decide), hq 170 (by decide), hq 171 (by decide), hq 172 (by decide), hq 173 (by decide), hq 177 (by decide), hq 181 (by decide), hq 182 (by decide), hq 183 (by decide), hq 184 (by decide), hq 178 (by decide), hq 185 (by decide)]
  exact PHR_rf (N := N)
theorem PHF_0 [Inhabited gh_] (hx : ∀ r : Nat, r ≠ 1 → M1 r = M r) (h1 : ∀ i : Int, i ∉ [4, 5, 6, 7] → M1 1 i = M 1 i) (hq : ∀ r : Nat, r ≠ 6 → N1 r = N r) (h6 : ∀ i : Int, i ∉ [12, 13, 14, 15] → N1 6 i = N 6 i) (h13 : b = 1 → N1 6 13 = 0 → N 6 13 = 0) (hk : b = 1 → kk_ (N1 6 13) (N1 6 14) ≤ kk_ (N 6 13) (N 6 14)) : PHF b F F M N M1 N1 :=
  PHFx_0 hx (fun i hi => h1 i (fun e => hi (List.mem_cons_of_mem _ e))) hq h6 h13 hk (by rw [h1 3 (by decide)]; exact Int.le_refl _) (fun _ v _ h3 h4 => by rw [h1 3 (by decide)] at h4; omega)
theorem PHF_rf [Inhabited gh_] : PHF b F F M N M N := PHF_0 (fun _ _ => rfl) (fun _ _ => rfl) (fun _ _ => rfl) (fun _ _ => rfl) (fun _ h => h) (fun _ => Int.le_refl _)
theorem DCL_70 [Inhabited gh_] (hV : VT M N) (h : DCL M (M 1 18) t) : M 70 t = 100 := by
  rcases h with ⟨k, hk, e⟩ | ⟨k, hk, e⟩
  · have := (hV.2.2.2.2.2.2.1 k hk.1 hk.2).1.2; rw [e] at this; exact this
  · have := (hV.2.2.2.2.2.2.2 k hk.1 hk.2).1.2; rw [e] at this; exact this
/-- over a token: no name -/
theorem PHF_go [Inhabited gh_] (h : HDR b F M N a) (hk : M 70 a ≠ 100) : PHF b F F M N (nX_ M) (nx_ N) := PHFx_0 (fun r h => nX_ne h) (fun i h => nX_1 (nm_i h (by decide))) (fun r h => nx_ne h) (fun i h => nx_6 (nm_i h (by decide))) (fun _ h => by rw [nx_6 (by decide)] at h; exact h) (fun _ => by rw [nx_6 (by decide), nx_6 (by decide)]; exact Int.le_refl _) (by rw [nX_3]; have e3 := (TS_E h.1.1).2.1; omega) (fun _ v hv h3 h4 => by
  have e3 := (TS_E h.1.1).2.1
  rw [nX_3, e3] at h4
  have : v = a := by omega
  rw [this] at hv
  exact hk (DCL_70 h.1.1.1.2.1 hv))
/-- over a name -/
theorem PHFx_go [Inhabited gh_] (h : HDR b F M N a) : PHFx (fun v => v = a) b F F M N (nX_ M) (nx_ N) := PHFx_0 (fun r h => nX_ne h) (fun i h => nX_1 (nm_i h (by decide))) (fun r h => nx_ne h) (fun i h => nx_6 (nm_i h (by decide))) (fun _ h => by rw [nx_6 (by decide)] at h; exact h) (fun _ => by rw [nx_6 (by decide), nx_6 (by decide)]; exact Int.le_refl _) (by rw [nX_3]; have e3 := (TS_E h.1.1).2.1; omega) (fun _ v hv h3 h4 => by
  have e3 := (TS_E h.1.1).2.1
  rw [nX_3, e3] at h4
  omega)
theorem nt_le [Inhabited gh_] {k p : Int} (h : vk_ (N 6 13) (N 6 14)) (h1 : 1 ≤ k ∧ k ≤ 7) (hp : 0 ≤ p ∧ p ≤ 5000) : kk_ (nt_ N k p 6 13) (nt_ N k p 6 14) ≤ kk_ (N 6 13) (N 6 14) ∧ (N 6 16 = 1 → kk_ (nt_ N k p 6 13) (nt_ N k p 6 14) ≤ 8 * p + k) := by
  by_cases c : N 6 16 = 0
  · have e : nt_ N k p = N := by unfold nt_; rw [if_pos c]
    rw [e]; exact ⟨Int.le_refl _, fun e => by omega⟩
  · have hfq : fqq_ (nt_ N k p) = np_ (N 6 16) (fqq_ N) k p := nt_fq
    have e1 : np_ (N 6 16) (fqq_ N) k p = np_ 1 (fqq_ N) k p := by unfold np_; rw [if_neg c, if_neg (c := (1 : Int) = 0) (by decide)]
    rw [e1] at hfq
    have k2 := kk_np (q := fqq_ N) (k := k) (p := p) h h1.1 h1.2 hp.1 hp.2
    have f13 : nt_ N k p 6 13 = (np_ 1 (fqq_ N) k p).1 := congrArg Prod.fst hfq
    have f14 : nt_ N k p 6 14 = (np_ 1 (fqq_ N) k p).2 := congrArg Prod.snd hfq
    have hkq : kk_ (fqq_ N).1 (fqq_ N).2 = kk_ (N 6 13) (N 6 14) := rfl
    rw [f13, f14, k2.1, hkq]
    exact ⟨by omega, fun _ => by omega⟩
theorem PHF_ow [Inhabited gh_] (h : HDR b F M N a) (ht : nm9_ M t) (ho : OWI N t N1) : PHF b F F M N M N1 := PHF_0 (fun _ _ => rfl) (fun _ _ => rfl) (fun r h => OWI_r ho h) (fun i h => OWI_6 ho (nm_i h (by decide)) (nm_i h (by decide))) (fun _ h => by
  rcases ho with e | ⟨e, _⟩
  · rw [e] at h; exact h
  · rw [e] at h
    unfold nt_ at h
    by_cases c : N 6 16 = 0
    · rw [if_pos c] at h; exact h
    · rw [if_neg c] at h
      by_cases c2 : N 6 13 = 0 ∨ N 150 t < N 6 14 ∨ N 150 t = N 6 14 ∧ 3 < N 6 13
      · rw [if_pos c2, bf_13] at h; exact absurd h (by decide)
      · rw [if_neg c2] at h; exact h) (fun _ => by
  have hT := h.1.1.1.1
  have hp := (hT t ht.1).2.2.2.1
  have pt : N 150 t = M 71 t := (hT t ht.1).2.1.symm
  rcases ho with e | ⟨e, _⟩
  · rw [e]; exact Int.le_refl _
  · rw [e]; exact (nt_le (TS_E h.1.1).2.2.2.2.2.2.2.2.2.2.1.2.1 (by decide) (by omega)).1)
theorem ONT_c [Inhabited gh_] (h : ONT b M1 N1 t) (hx : ∀ r : Nat, r ≠ 1 → M1 r = M r) (h18 : M1 1 18 = M 1 18) : ONT b M N1 t := by
  intro hb u hu hut he
  have := h hb u (by rw [h18]; exact (DCL_c (hx _ (by decide)) (hx _ (by decide)) (hx _ (by decide)) (hx _ (by decide))).2 hu) hut he
  rw [hx 71 (by decide)] at this; exact this
/-- own: a name told twice is noted -/
theorem ONT_ow [Inhabited gh_] (h : HDR b F M N a) (ht : nm9_ M t) (ho : OWX N t N1) : ONT b M N1 t := by
  intro hb u hu hut he
  have hT := h.1.1.1.1
  have hE := TS_E h.1.1
  have hV := h.1.1.1.2.1
  have v := hV.2
  have pt : N 150 t = M 71 t := (hT t ht.1).2.1.symm
  have hp := (hT t ht.1).2.2.2.1
  have e151 : N1 151 = N 151 := OWI_r (OWX_I ho) (by decide)
  rw [e151] at he
  have tb := h.2.1
  have hm : OWM N t := by
    rcases hu with ⟨k, hk, e⟩ | ⟨k, hk, e⟩
    · have r := v.2.2.2.2.2.1 k hk.1 hk.2
      have q := (tb.2.1 k hk.1 hk.2).2
      rw [e] at r q
      refine .inl ⟨k, ⟨hk.1, by rw [v.1, v.2.2.2.1.2.2]; exact hk.2⟩, by rw [v.1, r.2.1]; exact he, ?_⟩
      rw [v.1, q, pt]
      exact (hT t ht.1).2.2.2.2.1 u r.1.1 hut
    · have r := v.2.2.2.2.2.2 k hk.1 hk.2
      have q := tb.2.2.1 k hk.1 hk.2
      rw [e] at r q
      refine .inr ⟨k, ⟨hk.1, by rw [v.1, v.2.2.2.2.1.2.2]; exact hk.2⟩, by rw [v.1, r.2]; exact he, ?_⟩
      rw [v.1, q, pt]
      exact (hT t ht.1).2.2.2.2.1 u r.1.1 hut
  rcases ho with ⟨e, m⟩ | ⟨e, m⟩
  · exact absurd hm m
  · rw [e, ← pt]
    exact (nt_le hE.2.2.2.2.2.2.2.2.2.2.1.2.1 (by decide) (by omega)).2 (hE.2.2.2.2.2.2.2.1.trans hb)
theorem PHF_v [Inhabited gh_] (hb : b = 0) (hV : N 6 61 = M 1 18) (h124 : 0 ≤ M 124 (M 1 18) ∧ M 124 (M 1 18) < 8) : PHFx (fun v => b = 0 ∧ v = t) b F (Fd_ F M N t) M N (vX_ (nd_ M N t) t s z) (vA_ N (M 124 (M 1 18)) t v z) := by
  have e18 : nd_ M N t 1 18 = M 1 18 := nd_1 (by decide) (by decide) (by decide)
  have e124 : nd_ M N t 124 = M 124 := nd_r (by decide)
  refine ⟨⟨fun r h1 h2 => ?_, fun i hi => ?_, fun r h1 h2 => vA_r (fun e => h2 (by revert e; unfold vqL; simp only [List.mem_cons, List.not_mem_nil, or_false]; omega)), fun i _ => by rw [vA_r (by decide)]⟩, ⟨fun i hi => ?_, fun i hi => ?_, fun i hi => ?_⟩, fun hb1 => by omega, Fd_le, fun hb1 => by omega, fun u hu => ?_, by rw [vX_r (by decide), nd_1 (by decide) (by decide) (by decide)]; exact Int.le_refl _, fun _ u hu => ?_, fun hb1 => by omega⟩
  · rw [vX_r (fun e => h2 (by revert e; unfold vxL; simp only [List.mem_cons, List.not_mem_nil, or_false]; omega)), nd_r h1]
  · rw [vX_r (by decide), nd_1 (nm_i hi (by decide)) (nm_i hi (by decide)) (nm_i hi (by decide))]
  · have q : ∀ r : Nat, r ∈ [171, 172] → vA_ N (M 124 (M 1 18)) t v z r i = N r i := fun r hr => by
      have e6 : vN_ N (M 124 (M 1 18)) t 6 = N 6 := by unfold vN_; rw [up_ne (by decide), up_ne (by decide), up_ne (by decide)]
      unfold vA_ vH_
      rw [e6, hV, up_of2 hi, up_ne (fun e => by rw [e] at hr; revert hr; decide), up_ne (fun e => by rw [e] at hr; revert hr; decide), up_ne (fun e => by rw [e] at hr; revert hr; decide)]
      unfold vN_
      rw [hV, up_of2 hi, up_ne (fun e => by rw [e] at hr; revert hr; decide), up_ne (fun e => by rw [e] at hr; revert hr; decide)]
    refine ⟨⟨?_, ?_, ?_⟩, ?_, q 171 (by decide), q 172 (by decide), ?_⟩
    · rw [vX_t (by decide) (by rw [e18]; exact hi), nd_r (by decide)]
    · rw [vX_t (by decide) (by rw [e18]; exact hi), nd_r (by decide)]
    · rw [vX_r (by decide), nd_r (by decide)]
    · rw [vA_r (by decide)]
    · rw [vA_r (by decide)]
  · have i9 : i ≠ 8 * nd_ M N t 1 18 + nd_ M N t 124 (nd_ M N t 1 18) := by rw [e18, e124]; omega
    have j9 : i ≠ 8 * N 6 61 + M 124 (M 1 18) := by rw [hV]; omega
    refine ⟨⟨?_, ?_, ?_, ?_⟩, vA_o (by decide) j9, vA_o (by decide) j9, vA_o (by decide) j9, vA_o (by decide) j9, vA_o (by decide) j9⟩
    · rw [vX_o (by decide) i9, nd_r (by decide)]
    · rw [vX_o (by decide) i9, nd_r (by decide)]
    · rw [vX_o (by decide) i9, nd_r (by decide)]
    · rw [vX_o (by decide) i9, nd_r (by decide)]
  · rw [vX_r (by decide), nd_r (by decide), vA_r (by decide), vA_r (by decide)]; exact ⟨rfl, rfl, rfl⟩
  · have xk := vX_k (M := nd_ M N t) (t := t) (s := s) (z := z)
    rw [e18, e124] at xk
    unfold DCL at hu ⊢
    rw [xk.2.2.2.2.2, vX_r (r := 126) (by decide), vX_r (r := 61) (by decide), nd_r (r := 126) (by decide), nd_r (r := 61) (by decide)]
    rcases hu with ⟨k, hk, e⟩ | h
    · exact .inl ⟨k, ⟨hk.1, by omega⟩, by rw [vX_o (by decide) (by rw [e18, e124]; omega), nd_r (by decide)]; exact e⟩
    · exact .inr h
  · have xk := vX_k (M := nd_ M N t) (t := t) (s := s) (z := z)
    rw [e18, e124] at xk
    unfold DCL at hu ⊢
    rw [xk.2.2.2.2.2, vX_r (r := 126) (by decide), vX_r (r := 61) (by decide), nd_r (r := 126) (by decide), nd_r (r := 61) (by decide)] at hu
    rcases hu with ⟨k, hk, e⟩ | h
    · by_cases c : k = M 124 (M 1 18)
      · rw [c, xk.1] at e; exact .inr (.inr ⟨hb, e.symm⟩)
      · rw [vX_o (by decide) (by rw [e18, e124]; omega), nd_r (by decide)] at e; exact .inl (.inl ⟨k, ⟨hk.1, by omega⟩, e⟩)
    · exact .inl (.inr h)
theorem PHF_170 [Inhabited gh_] (hb : b = 0) : PHF b F F M N M (up_ N 170 (M 1 18) v) := by
  have q : ∀ r : Nat, r ≠ 170 → up_ N 170 (M 1 18) v r = N r := fun r h => up_ne h
  refine ⟨⟨fun _ _ _ => rfl, fun _ _ => rfl, fun r _ h2 => q r (fun e => h2 (by rw [e]; decide)), fun i _ => by rw [q 6 (by decide)]⟩, ⟨fun i hi => ⟨⟨rfl, rfl, rfl⟩, up_of2 hi, by rw [q 171 (by decide)], by rw [q 172 (by decide)], by rw [q 173 (by decide)]⟩, fun i _ => ⟨⟨rfl, rfl, rfl, rfl⟩, by rw [q 177 (by decide)], by rw [q 181 (by decide)], by rw [q 182 (by decide)], by rw [q 183 (by decide)], by rw [q 184 (by decide)]⟩, fun i _ => ⟨rfl, by rw [q 178 (by decide)], by rw [q 185 (by decide)]⟩⟩, fun hb1 => by omega, Int.le_refl _, fun _ => rfl, fun _ h => h, Int.le_refl _, fun _ u hu => .inl hu, fun hb1 => by omega⟩
theorem PHF_X [Inhabited gh_] {x : Int → Prop} (h : PHFx x b F F' M N M1 N1) : XPb M M1 := fun r hr => h.1.1 r (fun e => hr (by rw [e]; decide)) (fun e => hr (by revert e; unfold vxL xpL; simp only [List.mem_cons, List.not_mem_nil, or_false]; omega))
theorem PHF_Q [Inhabited gh_] {x : Int → Prop} (h : PHFx x b F F' M N M1 N1) : QPb N N1 := ⟨fun r hr => h.1.2.2.1 r (fun e => hr (by unfold QPRr; omega)) (fun e => hr (by revert e; unfold vqL QPRr; simp only [List.mem_cons, List.not_mem_nil, or_false]; omega)), fun i hi => h.1.2.2.2 i (fun e => hi (by revert e; unfold qpI; simp only [List.mem_cons, List.not_mem_nil, or_false]; omega))⟩
end PH
end T230_pr
section T231_pr
/-! parameters of a process: the loop (X 126 V 296 | Q 253 V 10) -/
def DMT (M : mm_) : Int → Bool := fun t => decide (fi_ (fun i => M 60 (8 * M 1 18 + i)) t (M 124 (M 1 18)).toNat 0 ≠ -1 ∨ fi_ (fun i => M 61 (3 * M 1 18 + i)) t (M 126 (M 1 18)).toNat 0 ≠ -1)
def DOK (b : Int) (dm : Int → Bool) (M M' : mm_) : Prop := (b = 0 → ∀ t, DCL M' (M' 1 18) t → dm t = true) ∧ (b = 1 → dm = DMT M)
def paT (κ : Int → Int) (dm : Int → Bool) (s : sj_) : Option (sj_ ⊕ sj_) := (gS s.1).bind fun a1 => if s.2 = 3 then none else (tS κ 100 a1).bind fun a2 => if dm a1 then (tS κ 258 a2).bind fun a3 => (srS κ a3).bind fun a4 => if κ a4 = 244 then some (.inl (a4, s.2 + 1)) else (tS κ 241 a4).bind fun a5 => some (.inr (a5, s.2 + 1)) else none
def PAS (κ : Int → Int) (dm : Int → Bool) (s : sj_) : Option sj_ := LQ (paT κ dm) s
section PAs
variable {κ : Int → Int} {dm : Int → Bool} {a j : Int} {M M1 M2 N N1 : mm_} {b F F' : Int}
theorem DMT_D [Inhabited gh_] {t : Int} (h : DMT M t = true) : DCL M (M 1 18) t := by
  unfold DMT at h
  rw [decide_eq_true_eq] at h
  rcases h with h | h
  · rcases fi_r (fun i => M 60 (8 * M 1 18 + i)) t (M 124 (M 1 18)).toNat 0 with e | ⟨e1, e2, e3⟩
    · exact absurd e h
    · exact .inl ⟨_, ⟨e1, by omega⟩, e3⟩
  · rcases fi_r (fun i => M 61 (3 * M 1 18 + i)) t (M 126 (M 1 18)).toNat 0 with e | ⟨e1, e2, e3⟩
    · exact absurd e h
    · exact .inr ⟨_, ⟨e1, by omega⟩, e3⟩
theorem DMT_c [Inhabited gh_] (h : PHF b F F' M N M1 N1) (hb : b = 1) : DMT M1 = DMT M := by
  have e := (h.2.2.1 hb).1
  unfold DMT
  rw [h.1.2.1 18 (by decide), e 60 (by decide), e 124 (by decide), e 61 (by decide), e 126 (by decide)]
theorem DOK_s [Inhabited gh_] {F2 F3 : Int} {N2 : mm_} (h1 : PHF b F F' M N M1 N1) (h2 : PHF b F2 F3 M1 N1 M2 N2) (h : DOK b dm M M2) : DOK b dm M M1 ∧ DOK b dm M1 M2 := by
  have e18 := h2.1.2.1 18 (by decide)
  refine ⟨⟨fun hb t ht => h.1 hb t (by rw [e18]; exact h2.2.2.2.2.2.1 t ht), h.2⟩, ⟨h.1, fun hb => by rw [DMT_c h1 hb]; exact h.2 hb⟩⟩
theorem paT_l [Inhabited gh_] (s s' : sj_) (h0 : 0 ≤ s.1) (h1 : s.1 ≤ 1200) (h : paT κ dm s = some (.inl s')) : s.1 + 1 ≤ s'.1 ∧ s'.1 ≤ 1200 := by
  unfold paT at h
  obtain ⟨x1, e1, h⟩ := bind_s h
  have g1 := gS_s e1
  split at h
  · cases h
  · obtain ⟨x2, e2, h⟩ := bind_s h
    have g2 := tS_s e2
    split at h
    · obtain ⟨x3, e3, h⟩ := bind_s h
      have g3 := tS_s e3
      obtain ⟨x4, e4, h⟩ := bind_s h
      unfold srS at e4
      split at e4
      · have g4 := gS_s e4
        split at h
        · injection h with h; injection h with h; rw [← h]; show s.1 + 1 ≤ x4 ∧ x4 ≤ 1200; omega
        · obtain ⟨x5, e5, h⟩ := bind_s h
          injection h with h; cases h
      · cases e4
    · cases h
theorem PAS_u [Inhabited gh_] (h0 : 0 ≤ a) (h1 : a ≤ 1200) : PAS κ dm (a, j) = (paT κ dm (a, j)).bind (lk9 (PAS κ dm)) := LQ_u (step := paT κ dm) (fun s => s.1) (fun s s' => paT_l s s') (s := (a, j)) h0 h1
theorem paT_y [Inhabited gh_] {L : sj_ → Option sj_} (h12 : a < 1200) (hj : j ≠ 3) : (paT κ dm (a, j)).bind (lk9 L) = (tS κ 100 (a + 1)).bind fun a2 => if dm (a + 1) then (tS κ 258 a2).bind fun a3 => (srS κ a3).bind fun a4 => if κ a4 = 244 then L (a4, j + 1) else (tS κ 241 a4).bind fun a5 => some (a5, j + 1) else none := by
  unfold paT
  simp only [gS_e h12, Option.bind_some, if_neg hj]
  cases tS κ 100 (a + 1) with
  | none => rfl
  | some x2 =>
    rw [Option.bind_some, Option.bind_some]
    by_cases cd : dm (a + 1) = true
    · rw [if_pos cd, if_pos cd]
      cases tS κ 258 x2 with
      | none => rfl
      | some x3 =>
        rw [Option.bind_some, Option.bind_some]
        cases srS κ x3 with
        | none => rfl
        | some x4 =>
          rw [Option.bind_some, Option.bind_some]
          by_cases c : κ x4 = 244
          · rw [if_pos c, if_pos c]; rfl
          · rw [if_neg c, if_neg c]
            cases tS κ 241 x4 with
            | none => rfl
            | some x5 => rfl
    · rw [if_neg cd, if_neg cd]; rfl
theorem PAS_e [Inhabited gh_] (h0 : 0 ≤ a) (h12 : a < 1200) (hj : j ≠ 3) : PAS κ dm (a, j) = (tS κ 100 (a + 1)).bind fun a2 => if dm (a + 1) then (tS κ 258 a2).bind fun a3 => (srS κ a3).bind fun a4 => if κ a4 = 244 then PAS κ dm (a4, j + 1) else (tS κ 241 a4).bind fun a5 => some (a5, j + 1) else none := (PAS_u h0 (Int.le_of_lt h12)).trans (paT_y h12 hj)
theorem PAS_3 [Inhabited gh_] (h0 : 0 ≤ a) (h1 : a ≤ 1200) : PAS κ dm (a, 3) = none := by
  have e := PAS_u (κ := κ) (dm := dm) (j := 3) h0 h1
  have e2 : paT κ dm (a, 3) = none := by
    unfold paT
    cases gS a with
    | none => simp only [Option.bind_none]
    | some a3 => simp only [Option.bind_some, if_true]
  rw [e2, Option.bind_none] at e
  exact e
theorem PAS_g [Inhabited gh_] (h0 : 0 ≤ a) (h1 : a ≤ 1200) (h : PAS κ dm (a, j) ≠ none) : a < 1200 := by
  have e := PAS_u (κ := κ) (dm := dm) (j := j) h0 h1
  rw [e] at h
  have h := bind_n h
  unfold paT at h
  exact gS_n (bind_n h)
end PAs
/-- X's rest behind the parameters -/
def R322 (V : vv_) (Qt : qt_) (x1 x2 x3 : Int) (M5 : mm_) : Prop := M5 1 2 = 5 ∧ (0 ≤ M5 1 18 ∧ M5 1 18 < 6) ∧ Tr_ wd0 pg0 130 121 [.inr (.inr 1), .inl 59] (up_ (up_ M5 1 6 (w32 ((M5 1 6) - 1))) 122 (M5 1 18) (w32 (x3 + 1))) (rv_ fun M6 => V 399 [rr 1, ii x1, ii x2, ii (w32 (x3 + 1)), none, none, none] [] M6) Qt
def q53 (dq : Nat) (j : Int) (N : mm_) (G : Int → mm_ → Prop) (Qt : qt_) : Prop := ∀ V : vv_, Cl_ wd0 (Tr_ wd0 pg0 (dq + 17)) V (ri_ G) Qt m_253 → Wk_ V → V 10 [rr 6, ii j, ii 1, none, none, none] [] (q1_ (nx_ N))
def q53e (dq : Nat) (j : Int) (N : mm_) (G : Int → mm_ → Prop) (Qt : qt_) : Prop := ∀ V : vv_, Cl_ wd0 (Tr_ wd0 pg0 (dq + 17)) V (ri_ G) Qt m_253 → Wk_ V → V 10 [rr 6, ii j, ii 0, none, none, none] [] (q1_ N)
section PAt
variable {dq : Nat} {N : mm_} {x1 x2 x3 : Int} {G : Int → mm_ → Prop} {Qtq : qt_} {V : vv_}
theorem q53_s [Inhabited gh_] (hV : Cl_ wd0 (Tr_ wd0 pg0 (dq + 17)) V (ri_ G) Qtq m_253) (hW : Wk_ V) (hs : sp_ N) (h : ∀ v, G v N) : V 10 [rr 6, ii x1, ii x2, none, none, none] [] N := by
  refine b_253_10 (Tr_mono _) hV hW _ _ _ ?_
  by_cases c : x2 = 0
  · rw [if_pos c]; exact q_243s hs (ri_i (h _))
  · rw [if_neg c]; exact q_227s hs (by rw [if_neg (by decide)]; exact q_243s hs (ri_i (h _)))
theorem q49_s [Inhabited gh_] (hV : Cl_ wd0 (Tr_ wd0 pg0 (dq + 17)) V (ri_ G) Qtq m_253) (hW : Wk_ V) (hs : sp_ N) (h : ∀ v, G v N) : V 49 [rr 6, ii x1, ii x2, ii x3, none, none] [] N := b_253_49 (Tr_mono _) hV hW _ _ _ _ (q_227s hs (by rw [if_neg (by decide)]; exact ri_i (h _)))
end PAt
end T231_pr
section T232_pr
/-! a variable: from its name to its sort, both passes -/
/-- Q between the name and the sort of a variable -/
def vB_ (b : Int) (N : mm_) (n t : Int) : mm_ := if b = 0 then vN_ N n t else N
/-- behind a variable -/
def vM_ (b : Int) (M N : mm_) (t s z : Int) : mm_ := if b = 0 then vX_ (nd_ M N t) t s z else M
def vQ_ (b : Int) (N : mm_) (n t s z : Int) : mm_ := if b = 0 then vA_ N n t s z else N
def vF_ (b F : Int) (M N : mm_) (t : Int) : Int := if b = 0 then Fd_ F M N t else F
section VW
variable {d : Nat} {b F : Int} {M N : mm_} {a t n s z l x4 : Int} {Kv : mm_ → Prop} {Qt : qt_}
theorem vB_6 [Inhabited gh_] : vB_ b N n t 6 = N 6 := by
  unfold vB_; split
  · unfold vN_; rw [up_ne (by decide), up_ne (by decide), up_ne (by decide)]
  · rfl
theorem vB_r [Inhabited gh_] {r : Nat} (h : r ∉ [171, 177, 181]) : vB_ b N n t r = N r := by
  unfold vB_; split
  · unfold vN_; rw [up_ne (fun e => h (by rw [e]; decide)), up_ne (fun e => h (by rw [e]; decide)), up_ne (fun e => h (by rw [e]; decide))]
  · rfl
theorem vB_nx [Inhabited gh_] : nx_ (vB_ b N n t) = vB_ b (nx_ N) n t := by
  unfold vB_; split
  · exact vN_nx.symm
  · rfl
theorem vB_q1 [Inhabited gh_] : vB_ b (q1_ N) n t = q1_ (vB_ b N n t) := by
  unfold vB_; split
  · exact vN_q1
  · rfl
theorem ER_vB [Inhabited gh_] {o : Int} (h : ER b F M N a o) : ER b F M (vB_ b N n t) a o := ER_Q h (by rw [vB_6]) (by rw [vB_6]) (by rw [vB_6]) (by rw [vB_6]) (by rw [vB_6])
theorem Tks_vB [Inhabited gh_] (h : Tks M N) : Tks M (vB_ b N n t) := Tks_r h (fun _ _ => rfl) (fun r hr => vB_r (by revert hr; simp only [List.mem_cons, List.not_mem_nil, or_false]; omega))
theorem QPb_vB [Inhabited gh_] : QPb N (vB_ b N n t) := ⟨fun r hr => vB_r (fun e => hr (by revert e; unfold QPRr; simp only [List.mem_cons, List.not_mem_nil, or_false]; omega)), fun i _ => by rw [vB_6]⟩
theorem QPb_q1 [Inhabited gh_] : QPb N (q1_ N) := QF_P q1_QF
theorem QPb_nx [Inhabited gh_] : QPb N (nx_ N) := QF_P nx_QF
theorem XPb_nX [Inhabited gh_] : XPb M (nX_ M) := XF_P nX_XF
theorem XPb_o1 [Inhabited gh_] : XPb M (o1_ M) := XF_P o1_XF
theorem XPb_fl [Inhabited gh_] {k t : Int} : XPb M (flX_ M k t) := XF_P fl_XF
/-- Q's variable(n, t) -/
theorem y_254 [Inhabited gh_] (h : HDR b F M N a) (ht : nm9_ M t) (hn : b = 0 → n = M 124 (M 1 18) ∧ n < 8) (hd : b = 1 → DCL M (M 1 18) t) : ∃ N', HDR b F M N' a ∧ (PHF b F F M N M N' ∧ ONT b M N' t) ∧ (b = 0 → N' = N) ∧ (∀ (d : Nat) (Kv : mm_ → Prop) (Qt : qt_), Kv (vB_ b N' n t) → Tr_ wd0 pg0 (d + 3) 254 [.inr (.inr 6), .inl n, .inl t] N (rv_ Kv) Qt) ∧ (∀ (d : Nat) (Kv : mm_ → Prop) (Qt : qt_), Kv (q1_ (vB_ b N' n t)) → Tr_ wd0 pg0 (d + 3) 254 [.inr (.inr 6), .inl n, .inl t] (q1_ N) (rv_ Kv) Qt) := by
  have hE := TS_E h.1.1
  have hV := h.1.1.1.2.1
  have v := hV.2
  have tu := ht.1.2.1
  have t0 := ht.1.1
  have g := ER_goq hE
  have g1 := ER_goq (ER_o1 hE)
  have n16 : N 6 16 = b := hE.2.2.2.2.2.2.2.1
  have a71 := v.2.2.2.1
  have a73 := v.2.2.2.2.1
  rcases bl01 hE with hb | hb
  · have hn' := hn hb
    refine ⟨N, h, ⟨PHF_rf, fun hb1 => by omega⟩, fun _ => rfl, fun d Kv Qt hk => ?_, fun d Kv Qt hk => ?_⟩
    · unfold vB_ at hk; rw [if_pos hb] at hk
      exact q_254n g (by omega) (by omega) (by omega) (by rw [v.1]; omega) (by omega) hk
    · unfold vB_ at hk; rw [if_pos hb, ← vN_q1] at hk
      exact q_254n g1 (by rw [q1_6 (by decide)]; omega) (by rw [q1_6 (by decide)]; omega) (by omega) (by rw [q1_6 (by decide), q1_r (by decide), v.1]; omega) (by omega) hk
  · obtain ⟨N', ho, hq⟩ := q_254j (t := t) g (by omega) (by omega) (by rw [v.1]; omega) (by rw [v.1]; omega) (by omega)
    obtain ⟨N2, ho2, hq2⟩ := q_254j (N := q1_ N) (t := t) g1 (by rw [q1_6 (by decide)]; omega) (by rw [q1_6 (by decide)]; omega) (by rw [q1_6 (by decide), q1_r (by decide), v.1]; omega) (by rw [q1_6 (by decide), q1_r (by decide), v.1]; omega) (by omega)
    have same : N2 = q1_ N' := by
      rcases ho with ⟨e, m⟩ | ⟨e, m⟩
      · rcases ho2 with ⟨e2, m2⟩ | ⟨e2, m2⟩
        · rw [e, e2]
        · exact absurd (OWM_q1.1 m2) m
      · rcases ho2 with ⟨e2, m2⟩ | ⟨e2, m2⟩
        · exact absurd (OWM_q1.2 m) m2
        · rw [e2, e, q1_r (by decide), nt_q1]
    refine ⟨N', HDR_ow h hb ht (hd hb) (OWX_I ho), ⟨PHF_ow h ht (OWX_I ho), ONT_ow h ht ho⟩, fun hb0 => by omega, fun d Kv Qt hk => ?_, fun d Kv Qt hk => ?_⟩
    · unfold vB_ at hk; rw [if_neg (by omega)] at hk
      exact hq d n Kv Qt hk
    · unfold vB_ at hk; rw [if_neg (by omega)] at hk
      exact hq2 d n Kv Qt (by rw [same]; exact hk)
end VW
end T232_pr
section T233_pr
/-! a variable: its end, both passes -/
section VY
variable {d : Nat} {b F : Int} {M N : mm_} {a t n s z l x4 : Int} {Kv : mm_ → Prop} {Qt : qt_}
def VOV (M : mm_) (z : Int) : Prop := 16 < M 125 (M 1 18) + (if 1 < z then z else 1)
theorem HDR_w [Inhabited gh_] (h : HDR b F M N a) (ht : nm9_ M t) (hta : t < a) (hlt : b = 0 → ∀ u, DCL M (M 1 18) u → u < t) (hn : b = 0 → n = M 124 (M 1 18) ∧ n < 8) (hz : 0 ≤ z ∧ z ≤ 8) (hs : 0 ≤ s ∧ s ≤ 2) (hf : M 1 7 + 1 + 8 * (1201 - a) ≤ 1000000000 - (gg_ : Int)) (hp : b = 0 → N 170 (M 1 18) ≤ M 124 (M 1 18)) (hc : b = 0 → ¬ VOV M z) : HDR b (vF_ b F M N t) (vM_ b M N t s z) (vQ_ b N n t (s + 1) z) a ∧ PHFx (fun v => b = 0 ∧ v = t) b F (vF_ b F M N t) M N (vM_ b M N t s z) (vQ_ b N n t (s + 1) z) := by
  have hV := h.1.1.1.2.1
  rcases bl01 (TS_E h.1.1) with hb | hb
  · unfold vF_ vM_ vQ_
    rw [if_pos hb, if_pos hb, if_pos hb, (hn hb).1]
    have c := hc hb
    unfold VOV at c
    have n8 := hn hb
    have n0 := hV.2.2.2.2.1.1
    exact ⟨HDR_v h hb ht hta (hlt hb) (by omega) (by omega) hz hs hf (hp hb), PHF_v hb hV.2.1 ⟨n0, by omega⟩⟩
  · unfold vF_ vM_ vQ_
    rw [if_neg (by omega), if_neg (by omega), if_neg (by omega)]
    exact ⟨h, PHFx_w PHF_rf⟩
theorem y_127 [Inhabited gh_] (h : HDR b F M N a) (ht : nm9_ M t) (hn : b = 0 → M 124 (M 1 18) < 8) (hz : 0 ≤ z ∧ z ≤ 8) (hl : 0 ≤ l ∧ l < 1202) (hK : (b = 0 → ¬ VOV M z) → Kv (vM_ b M N t s z)) (hr : b = 0 → VOV M z → Qt 8 (flX_ M 2 l)) : Tr_ wd0 pg0 (d + 4) 127 [.inr (.inr 1), .inl t, .inl s, .inl z, .inl l] M (rv_ Kv) Qt := by
  have hE := TS_E h.1.1
  have m8 : M 1 8 = b := hE.2.2.2.2.2.2.1
  rcases bl01 hE with hb | hb
  · unfold vM_ VOV at *
    rw [if_pos hb] at hK
    have b1 := h.2.1.1
    exact x_127 (by omega) h.1.1.1.1 h.1.1.1.2.1 ht (hn hb) ⟨b1.2.1, b1.2.2.1⟩ hz hl (ER_fl hE) (fun c => hK (fun _ => by omega)) (hr hb)
  · unfold vM_ at hK
    rw [if_neg (by omega)] at hK
    exact x_127j (by omega) (hK (fun hb0 => by omega))
theorem y_127o [Inhabited gh_] (h : HDR b F M N a) (ht : nm9_ M t) (hn : b = 0 → M 124 (M 1 18) < 8) (hz : 0 ≤ z ∧ z ≤ 8) (hl : 0 ≤ l ∧ l < 1202) (hK : (b = 0 → ¬ VOV M z) → Kv (o1_ (vM_ b M N t s z))) (hr : b = 0 → VOV M z → Qt 8 (flX_ (o1_ M) 2 l)) : Tr_ wd0 pg0 (d + 4) 127 [.inr (.inr 1), .inl t, .inl s, .inl z, .inl l] (o1_ M) (rv_ Kv) Qt := by
  have hE := TS_E h.1.1
  have m8 : o1_ M 1 8 = b := by rw [o1_1 (by decide)]; exact hE.2.2.2.2.2.2.1
  have e18 : o1_ M 1 18 = M 1 18 := o1_1 (by decide)
  have e125 : o1_ M 125 = M 125 := o1_r (by decide)
  rcases bl01 hE with hb | hb
  · unfold vM_ VOV at *
    rw [if_pos hb] at hK
    have b1 := h.2.1.1
    refine x_127 (N := q1_ N) (by omega) (Tks_a (XF_XA o1_XF) (QF_QA q1_QF) h.1.1.1.1) (VT_a (XF_XA o1_XF) (QF_QA q1_QF) h.1.1.1.2.1) (nm9_r ht (o1_r (by decide))) (by rw [e18, o1_r (by decide)]; exact hn hb) (by rw [e18, e125]; exact ⟨b1.2.1, b1.2.2.1⟩) hz hl (ER_fl (ER_o1 hE)) (fun c => ?_) (fun c => hr hb (by rw [e18, e125] at c; exact c))
    rw [e18, e125] at c
    rw [nd_o1, vX_o1]
    exact hK (fun _ => by omega)
  · unfold vM_ at hK
    rw [if_neg (by omega)] at hK
    exact x_127j (by omega) (hK (fun hb0 => by omega))
/-- Q's holds, pass 1 -/
theorem j_256 [Inhabited gh_] (h : HDR b F M N a) (hb : b = 0) (hn : 0 ≤ n ∧ n < 8) (hz : 0 ≤ z ∧ z ≤ 8) (hg : ¬ VOV M z → Kv (vQ_ b N n t s z)) (hr : VOV M z → Kv (bf_ (vQ_ b N n t s z) 2 x4)) : Tr_ wd0 pg0 (d + 2) 256 [.inr (.inr 6), .inl n, .inl s, .inl z, .inl x4] (vB_ b N n t) (rv_ Kv) Qt := by
  have hE := TS_E h.1.1
  have hV := h.1.1.1.2.1
  have b1 := h.2.1.1
  unfold vQ_ at hg hr
  rw [if_pos hb] at hg hr
  have e61 : vB_ b N n t 6 61 = M 1 18 := by rw [vB_6]; exact hV.2.1
  have e172 : vB_ b N n t 172 (M 1 18) = M 125 (M 1 18) := by rw [vB_r (by decide)]; exact b1.1
  have ez : (if z = 0 then (1 : Int) else z) = (if 1 < z then z else 1) := by
    by_cases c : z = 0
    · rw [if_pos c, if_neg (by omega)]
    · rw [if_neg c]
      by_cases c2 : 1 < z
      · rw [if_pos c2]
      · rw [if_neg c2]; omega
  have ev : vB_ b N n t = vN_ N n t := by unfold vB_; rw [if_pos hb]
  refine q_256 (by rw [e61]; have := hV.2.2; omega) hn hz (by rw [e61, e172]; omega) (by rw [vB_6]; exact hE.2.2.2.2.2.2.2.2.2.1 hb) ?_ ?_
  · rw [e61, e172, ez, ev]
    exact fun c => hg (fun e => by unfold VOV at e; omega)
  · rw [e61, e172, ez, ev]
    exact fun c => hr (by unfold VOV; omega)
theorem j_256o [Inhabited gh_] (h : HDR b F M N a) (hb : b = 0) (hn : 0 ≤ n ∧ n < 8) (hz : 0 ≤ z ∧ z ≤ 8) (hg : ¬ VOV M z → Kv (q1_ (vQ_ b N n t s z))) (hr : VOV M z → Kv (bf_ (q1_ (vQ_ b N n t s z)) 2 x4)) : Tr_ wd0 pg0 (d + 2) 256 [.inr (.inr 6), .inl n, .inl s, .inl z, .inl x4] (q1_ (vB_ b N n t)) (rv_ Kv) Qt := by
  have hE := TS_E h.1.1
  have hV := h.1.1.1.2.1
  have b1 := h.2.1.1
  unfold vQ_ at hg hr
  rw [if_pos hb] at hg hr
  have e61 : q1_ (vB_ b N n t) 6 61 = M 1 18 := by rw [q1_6 (by decide), vB_6]; exact hV.2.1
  have e172 : q1_ (vB_ b N n t) 172 (M 1 18) = M 125 (M 1 18) := by rw [q1_r (by decide), vB_r (by decide)]; exact b1.1
  have ez : (if z = 0 then (1 : Int) else z) = (if 1 < z then z else 1) := by
    by_cases c : z = 0
    · rw [if_pos c, if_neg (by omega)]
    · rw [if_neg c]
      by_cases c2 : 1 < z
      · rw [if_pos c2]
      · rw [if_neg c2]; omega
  have ev : vB_ b N n t = vN_ N n t := by unfold vB_; rw [if_pos hb]
  have eA : vH_ (q1_ (vB_ b N n t)) n s z = q1_ (vA_ N n t s z) := by rw [ev, vH_q1]; rfl
  refine q_256 (by rw [e61]; have := hV.2.2; omega) hn hz (by rw [e61, e172]; omega) (by rw [q1_6 (by decide), vB_6]; exact hE.2.2.2.2.2.2.2.2.2.1 hb) ?_ ?_
  · rw [e61, e172, ez, eA]
    exact fun c => hg (fun e => by unfold VOV at e; omega)
  · rw [e61, e172, ez, eA]
    exact fun c => hr (by unfold VOV; omega)
theorem vM_r [Inhabited gh_] {r : Nat} (h1 : r ≠ 1) (h : r ∉ vxL) : vM_ b M N t s z r = M r := by
  unfold vM_; split
  · rw [vX_r (fun e => h (by revert e; unfold vxL; simp only [List.mem_cons, List.not_mem_nil, or_false]; omega)), nd_r h1]
  · rfl
theorem vQ_r [Inhabited gh_] {r : Nat} (h6 : r ≠ 6) (h : r ∉ vqL) : vQ_ b N n t s z r = N r := by
  unfold vQ_; split
  · exact vA_r (fun e => h (by revert e; unfold vqL; simp only [List.mem_cons, List.not_mem_nil, or_false]; omega))
  · rfl
theorem vQ_6 [Inhabited gh_] : vQ_ b N n t s z 6 = N 6 := by
  unfold vQ_; split
  · exact vA_r (by decide)
  · rfl
end VY
end T233_pr
section T234_pr
/-! parameters of a process: the loop, walked -/
def P296 [Inhabited gh_] (dq : Nat) (b x1 x2 : Int) (V : vv_) (Qt : qt_) (n : Nat) : Prop := ∀ (a j F : Int) (M N : mm_), 1201 - a ≤ (n : Int) → HDR b F M N a → a < 1200 → (M 70 a = 240 ∨ M 70 a = 244) → (0 ≤ j ∧ j ≤ 3) → (b = 0 → M 124 (M 1 18) = j ∧ N 170 (M 1 18) = j) → (b = 1 → PAS (M 70) (DMT M) (a, j) ≠ none) →
    (∀ F' M' N' a' j', HDR b F' M' N' a' → a + 4 ≤ a' → (j ≤ j' ∧ j' ≤ 2) → (b = 0 → M' 124 (M 1 18) = j' + 1 ∧ N' 170 (M 1 18) = j' + 1 ∧ M' 126 (M 1 18) = M 126 (M 1 18)) → PHF b F F' M N M' N' → M' 70 a' ≠ 244 → (∀ dm, DOK b dm M M' → PAS (M 70) dm (a, j) = (tS (M 70) 241 a').bind fun a5 => some (a5, j' + 1)) → (∀ (G : Int → mm_ → Prop) (Qtq : qt_), q53e dq (j' + 1) N' G Qtq → q53 dq j N G Qtq) → Tr_ wd0 pg0 130 121 [.inr (.inr 1), .inl 41] (o1_ M') (rv_ (R322 V Qt x1 x2 j')) Qt) →
    (b = 0 → ∀ Mx', XPb M Mx' → (∀ (G : Int → mm_ → Prop) (Qtq : qt_), (∀ v M', SQp Mx' N M' → G v M') → q53 dq j N G Qtq) → Qt 8 Mx') →
    V 296 [rr 1, ii x1, ii x2, ii j, none, none, none] [] (o1_ M)
section PL1
variable {dq : Nat} {b : Int} {x1 x2 a j F F5 : Int} {M N M5 N5 : mm_} {n : Nat} {Kv : mm_ → Prop} {Qt : qt_} {V : vv_}
theorem pa_main [Inhabited gh_] (hV : Cl_ wd0 (Tr_ wd0 pg0 130) V (rv_ Kv) Qt m_126) (hW : Wk_ V) (IH : P296 dq b x1 x2 V Qt n) (hn : 1201 - a ≤ ((n + 1 : Nat) : Int)) (ha : 0 ≤ a ∧ a ≤ 1200) (hj : 0 ≤ j ∧ j ≤ 2) (h01 : b = 0 ∨ b = 1)
    (eS : ∀ dm, dm (a + 1) = true → PAS (M 70) dm (a, j) = if M 70 (a + 1 + 1 + 1 + 1) = 244 then PAS (M 70) dm (a + 1 + 1 + 1 + 1, j + 1) else (tS (M 70) 241 (a + 1 + 1 + 1 + 1)).bind fun a5 => some (a5, j + 1)) (dm1 : b = 1 → DMT M (a + 1) = true) (hS : b = 1 → PAS (M 70) (DMT M) (a, j) ≠ none)
    (hK : ∀ F' M' N' a' j', HDR b F' M' N' a' → a + 4 ≤ a' → (j ≤ j' ∧ j' ≤ 2) → (b = 0 → M' 124 (M 1 18) = j' + 1 ∧ N' 170 (M 1 18) = j' + 1 ∧ M' 126 (M 1 18) = M 126 (M 1 18)) → PHF b F F' M N M' N' → M' 70 a' ≠ 244 → (∀ dm, DOK b dm M M' → PAS (M 70) dm (a, j) = (tS (M 70) 241 a').bind fun a5 => some (a5, j' + 1)) → (∀ (G : Int → mm_ → Prop) (Qtq : qt_), q53e dq (j' + 1) N' G Qtq → q53 dq j N G Qtq) → Tr_ wd0 pg0 130 121 [.inr (.inr 1), .inl 41] (o1_ M') (rv_ (R322 V Qt x1 x2 j')) Qt)
    (hQ : b = 0 → ∀ Mx', XPb M Mx' → (∀ (G : Int → mm_ → Prop) (Qtq : qt_), (∀ v M', SQp Mx' N M' → G v M') → q53 dq j N G Qtq) → Qt 8 Mx')
    (H6 : HDR b F5 M5 N5 (a + 1 + 1 + 1 + 1)) (p6 : PHF b F F5 M N M5 N5) (cn6 : b = 0 → M5 124 (M 1 18) = j + 1 ∧ N5 170 (M 1 18) = j + 1 ∧ M5 126 (M 1 18) = M 126 (M 1 18)) (r6 : M5 70 = M 70) (dc6 : b = 0 → DCL M5 (M 1 18) (a + 1)) (q6 : ∀ (G : Int → mm_ → Prop) (Qtq : qt_), (∀ V' : vv_, Cl_ wd0 (Tr_ wd0 pg0 (dq + 17)) V' (ri_ G) Qtq m_253 → Wk_ V' → Tr_ wd0 pg0 (dq + 17) 242 [.inr (.inr 6), .inl 44] (q1_ N5) (ri_ fun v2 M2 => V' 10 [rr 6, ii (w32 (j + 1)), ii v2, none, none, none] [] M2) Qtq) → q53 dq j N G Qtq) :
    Tr_ wd0 pg0 130 117 [.inr (.inr 1), .inl 44] (o1_ M5) (ri_ fun v2 M4 => if v2 = 0 then Tr_ wd0 pg0 130 121 [.inr (.inr 1), .inl 41] M4 (rv_ (R322 V Qt x1 x2 j)) Qt else V 296 [rr 1, ii x1, ii x2, ii (w32 (j + 1)), none, none, none] [] M4) Qt := by
  have hE6 := TS_E H6.1.1
  have oE6 := ER_o1 hE6
  have oT6 : Tks (o1_ M5) (q1_ N5) := Tks_a (XF_XA o1_XF) (QF_QA q1_QF) H6.1.1.1.1
  have w1 : w32 (j + 1) = j + 1 := w32_id (by omega) (by omega)
  rw [w1] at q6 ⊢
  have xs6 : XPb M (o1_ M5) := XPb_tr (PHF_X p6) XPb_o1
  have qs6 : QPb N (q1_ N5) := QPb_tr (PHF_Q p6) QPb_q1
  have e186 : M5 1 18 = M 1 18 := p6.1.2.1 18 (by decide)
  have ok1 : ∀ dm, DOK b dm M M5 → dm (a + 1) = true := fun dm hd => by
    rcases h01 with hb | hb
    · exact hd.1 hb _ (by rw [e186]; exact dc6 hb)
    · rw [hd.2 hb]; exact dm1 hb
  have a6 := ER_a hE6
  refine y_117 oE6 (by decide) (fun c => ?_) (fun c => ?_)
  · rw [if_neg (by decide)]
    have c' : M5 70 (a + 1 + 1 + 1 + 1) = 244 := by have := c; rw [o1_r (by decide)] at this; exact this
    have c'' : M 70 (a + 1 + 1 + 1 + 1) = 244 := by rw [← r6]; exact c'
    have eS6 : ∀ dm, dm (a + 1) = true → PAS (M 70) dm (a, j) = PAS (M 70) dm (a + 1 + 1 + 1 + 1, j + 1) := fun dm hd => by rw [eS dm hd, if_pos c'']
    by_cases c12 : a + 1 + 1 + 1 + 1 < 1200
    · have q7 : ∀ (G : Int → mm_ → Prop) (Qtq : qt_), q53 dq (j + 1) N5 G Qtq → q53 dq j N G Qtq := fun G Qtq hq => q6 G Qtq fun V' hV' hW' => j_242t oT6 oE6 (by decide) c c12 (by
        have := hq V' hV' hW'
        rw [← nx_q1] at this
        exact this)
      refine IH (a + 1 + 1 + 1 + 1) (j + 1) F5 M5 N5 (by omega) H6 c12 (.inr c') (by omega) (by rw [e186]; exact fun hb => ⟨(cn6 hb).1, (cn6 hb).2.1⟩) (fun hb => ?_) (fun F' M' N' a' j' H' ha' hj' cn' p' h44 sy hq => ?_) (fun hb Mx' hx hq => ?_)
      · have := hS hb
        rw [eS6 _ (dm1 hb)] at this
        rw [r6, DMT_c p6 hb]; exact this
      · rw [r6] at sy
        rw [e186] at cn'
        refine hK F' M' N' a' j' H' (by omega) (by omega) (fun hb => ⟨(cn' hb).1, (cn' hb).2.1, (cn' hb).2.2.trans (cn6 hb).2.2⟩) (PHF_tr p6 p') h44 (fun dm hd => ?_) (fun G Qtq hg => q7 G Qtq (hq G Qtq hg))
        have o := DOK_s p6 p' hd
        rw [eS6 dm (ok1 dm o.1)]
        exact sy dm o.2
      · exact hQ hb Mx' (XPb_tr (PHF_X p6) hx) (fun G Qtq hg => q7 G Qtq (hq G Qtq fun v M' p => hg v _ (SQp_tr (PHF_Q p6) p)))
    · rcases h01 with hb | hb
      · refine b_126_296 (Tr_mono _) hV hW _ _ _ _ ?_
        refine y_105 oE6 (by rw [c]; decide) (fun hb1 => by omega) (fun h16 _ => by omega) (fun _ h16 => ?_)
        have hsp := SQ_bf oE6 hb (k := 2) (by decide) QA_rf
        exact hQ hb _ (XPb_tr xs6 XPb_fl) (fun G Qtq hg => q6 G Qtq fun V' hV' hW' => j_242r oT6 oE6 hb (by decide) c h16 (q53_s hV' hW' hsp.1 fun v => hg v _ (SQp_tr qs6 (SQ_P hsp))))
      · exfalso
        have := hS hb
        rw [eS6 _ (dm1 hb)] at this
        have := PAS_g (by omega) (by omega) this
        omega
  · rw [if_pos rfl]
    have c' : ¬ M5 70 (a + 1 + 1 + 1 + 1) = 244 := by have := c; rw [o1_r (by decide)] at this; exact this
    have c'' : ¬ M 70 (a + 1 + 1 + 1 + 1) = 244 := by rw [← r6]; exact c'
    refine hK F5 M5 N5 (a + 1 + 1 + 1 + 1) j H6 (by omega) (by omega) cn6 p6 c' (fun dm hd => ?_) (fun G Qtq hg => q6 G Qtq fun V' hV' hW' => j_242f oT6 oE6 (by decide) c (hg V' hV' hW'))
    rw [eS dm (ok1 dm hd), if_neg c'']
end PL1
end T234_pr
section T235_pr
/-! parameters of a process: behind a parameter -/
section PL3
variable {dq : Nat} {b : Int} {a j F t s : Int} {M N : mm_}
theorem pa_end [Inhabited gh_] (h : HDR b F M N a) (ht : nm9_ M t) (hta : t < a) (hlt : b = 0 → ∀ u, DCL M (M 1 18) u → u < t) (hj : 0 ≤ j ∧ j ≤ 2) (hcnt : b = 0 → M 124 (M 1 18) = j ∧ N 170 (M 1 18) = j) (hov : b = 0 → ¬ VOV M 0) (hs : 0 ≤ s ∧ s ≤ 2) (hf : M 1 7 + 1 + 8 * (1201 - a) ≤ 1000000000 - (gg_ : Int)) :
    ∃ F5 N5, HDR b F5 (vM_ b M N t s 0) N5 a ∧ PHFx (fun v => b = 0 ∧ v = t) b F F5 M N (vM_ b M N t s 0) N5 ∧ (b = 0 → vM_ b M N t s 0 124 (M 1 18) = j + 1 ∧ N5 170 (M 1 18) = j + 1 ∧ vM_ b M N t s 0 126 (M 1 18) = M 126 (M 1 18)) ∧ vM_ b M N t s 0 70 = M 70 ∧ (b = 0 → DCL (vM_ b M N t s 0) (M 1 18) t) ∧ (b = 0 → N5 = up_ (vQ_ b N j t (s + 1) 0) 170 (M 1 18) (j + 1)) ∧ (b = 1 → N5 = N) := by
  obtain ⟨H5, p5⟩ := HDR_w (s := s) (z := 0) (n := j) (t := t) h ht hta hlt (fun hb => by have := hcnt hb; omega) (by decide) hs hf (fun hb => by have := hcnt hb; omega) hov
  have x70 : vM_ b M N t s 0 70 = M 70 := vM_r (by decide) (by decide)
  rcases bl01 (TS_E h.1.1) with hb | hb
  · have hV := h.1.1.1.2.1
    have e18v : vM_ b M N t s 0 1 18 = M 1 18 := p5.1.2.1 18 (by decide)
    have xk := vX_k (M := nd_ M N t) (t := t) (s := s) (z := 0)
    rw [nd_1 (i := 18) (by decide) (by decide) (by decide), nd_r (r := 124) (by decide), (hcnt hb).1] at xk
    have b124 : vM_ b M N t s 0 124 (M 1 18) = j + 1 := by unfold vM_; rw [if_pos hb]; exact xk.2.2.2.2.2
    have b126 : vM_ b M N t s 0 126 (M 1 18) = M 126 (M 1 18) := by unfold vM_; rw [if_pos hb, vX_r (by decide), nd_r (by decide)]
    have b60 : vM_ b M N t s 0 60 (8 * M 1 18 + j) = t := by unfold vM_; rw [if_pos hb]; exact xk.1
    have b170 : vQ_ b N j t (s + 1) 0 170 (M 1 18) = j := by unfold vQ_; rw [if_pos hb, vA_r (by decide)]; exact (hcnt hb).2
    have b182 : vQ_ b N j t (s + 1) 0 182 (8 * M 1 18 + j) = s + 1 := by
      unfold vQ_; rw [if_pos hb]
      have qk := (vA_k (N := N) (n := j) (t := t) (s := s + 1) (z := 0)).2.2.2.1
      rw [hV.2.1] at qk; exact qk
    have b183 : vQ_ b N j t (s + 1) 0 183 (8 * M 1 18 + j) = 0 := by
      unfold vQ_; rw [if_pos hb]
      have qk := (vA_k (N := N) (n := j) (t := t) (s := s + 1) (z := 0)).2.2.2.2.1
      rw [hV.2.1] at qk; exact qk
    generalize vM_ b M N t s 0 = M5 at *
    generalize vQ_ b N j t (s + 1) 0 = N4 at *
    have h6 := HDR_170 (n := j) H5 hb (by omega) trivial (by rw [e18v, b182, b183]; omega) (by rw [e18v]; exact b170)
    have p6 := PHF_170 (b := b) (F := vF_ b F M N t) (M := M5) (N := N4) (v := j + 1) hb
    rw [e18v] at h6 p6
    exact ⟨_, _, h6, PHFx_tr p5 (PHFx_w p6), fun _ => ⟨b124, up_at, b126⟩, x70, fun _ => .inl ⟨j, by rw [b124]; omega, b60⟩, fun _ => rfl, fun hb1 => by omega⟩
  · have ev : vQ_ b N j t (s + 1) 0 = N := by unfold vQ_; rw [if_neg (by omega)]
    rw [ev] at H5 p5
    exact ⟨_, _, H5, p5, fun hb0 => by omega, x70, fun hb0 => by omega, fun hb0 => by omega, fun _ => rfl⟩
end PL3
end T235_pr

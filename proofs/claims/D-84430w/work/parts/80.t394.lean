section T394_bg
/-! begin (X 57 | Q 321) -/
/-- what holds between the two whether or not something runs -/
def BAS (M N : mm_) : Prop := (∀ i, 0 ≤ i → i < 1200 → M 24 i = N 241 i) ∧ (∀ i, 0 ≤ i → i < 2000 → M 23 i = N 240 i) ∧ RG9 N
def XBG (M M' : mm_) : Prop := (∀ r : Nat, r ∉ xuL → M' r = M r) ∧ ∀ i : Int, i ∉ 4 :: 9 :: 11 :: 62 :: 63 :: 64 :: xfL → M' 0 i = M 0 i
def QBG (N N' : mm_) : Prop := (∀ r : Nat, r ∉ quL → N' r = N r) ∧ ∀ i : Int, i ∉ 126 :: 128 :: 130 :: 163 :: 164 :: 169 :: qfL → N' 6 i = N 6 i
def bgX (M : mm_) (x1 : Int) : mm_ := up_ (up_ (up_ (up_ (up_ (up_ (up_ (up_ (up_ (up_ (up_ (up_ (up_ (up_ (up_ (up_ (up_ (up_ (up_ (up_ (up_ M 0 4 1) 0 10 x1) 0 25 0) 0 7 0) 0 26 0) 0 8 1) 0 9 0) 0 11 0) 0 27 0) 0 28 0) 0 29 0) 0 30 0) 0 31 0) 0 32 0) 0 33 0) 0 34 0) 0 35 0) 0 36 0) 0 62 0) 0 63 0) 0 64 0
def bgQ (M : mm_) (x1 : Int) : mm_ := up_ (up_ (up_ (up_ (up_ (up_ (up_ (up_ (up_ (up_ (up_ (up_ (up_ (up_ (up_ (up_ (up_ (up_ (up_ (up_ M 239 1 1) 6 126 1) 6 127 0) 6 128 0) 6 129 x1) 6 130 0) 6 131 0) 6 132 0) 6 133 0) 6 134 0) 6 135 0) 6 136 0) 6 137 0) 6 144 0) 6 145 0) 6 142 0) 6 143 0) 6 163 0) 6 169 0) 6 164 0
section BGa
variable {z : Int} {M N M' N' M1 N1 M2 N2 : mm_} {s k r T p w n x1 x2 x3 x4 x5 y : Int}
theorem XBG_g [Inhabited fz_] (h : XRG M M') : XBG M M' := ⟨h.1, fun i hi => h.2 i (fun c => hi (by simp only [List.mem_cons] at c ⊢; rcases c with c | c | c; exact .inr (.inl c); exact .inr (.inr (.inl c)); exact .inr (.inr (.inr (.inr (.inr (.inr c)))))))⟩
theorem QBG_g [Inhabited fz_] (h : QRG N N') : QBG N N' := ⟨h.1, fun i hi => h.2 i (fun c => hi (by simp only [List.mem_cons] at c ⊢; rcases c with c | c | c; exact .inr (.inl c); exact .inr (.inr (.inl c)); exact .inr (.inr (.inr (.inr (.inr (.inr c)))))))⟩
theorem XBG_tr [Inhabited fz_] (h : XBG M M1) (g : XBG M1 M') : XBG M M' := ⟨fun r hr => (g.1 r hr).trans (h.1 r hr), fun i hi => (g.2 i hi).trans (h.2 i hi)⟩
theorem QBG_tr [Inhabited fz_] (h : QBG N N1) (g : QBG N1 N') : QBG N N' := ⟨fun r hr => (g.1 r hr).trans (h.1 r hr), fun i hi => (g.2 i hi).trans (h.2 i hi)⟩
theorem PLr_b [Inhabited fz_] (h : PLr M N) (hx : XBG M M') (hq : QBG N N') : PLr M' N' := by
  have e1 : swc M' = swc M := by
    funext r
    unfold swc
    split
    · rw [hx.1 4 (by decide)]
    · split
      · rename_i c
        exact hx.1 _ (fun e => by simp only [xuL, List.mem_cons, List.not_mem_nil, or_false] at e; omega)
      · rfl
  have e2 : tbN N' = tbN N := by
    funext r
    unfold tbN
    split
    · funext i
      split
      · rename_i hi
        exact hq.2 i (fun e => by simp only [tfL, qfL, List.mem_cons, List.not_mem_nil, or_false] at hi e; omega)
      · rfl
    · split
      · exact hq.1 r (fun e => by simp only [quL, List.mem_cons, List.not_mem_nil, or_false] at e; omega)
      · rfl
  unfold PLr; rw [e1, e2]; exact h
theorem bgX_r [Inhabited fz_] {r : Nat} (h : r ≠ 0) : bgX M x1 r = M r := by unfold bgX; simp only [up_ne h]
theorem bgX_o [Inhabited fz_] {i : Int} (h : i ∉ 4 :: 9 :: 11 :: 62 :: 63 :: 64 :: xfL) : bgX M x1 0 i = M 0 i := by
  simp only [xfL, List.mem_cons, List.not_mem_nil, or_false, not_or] at h
  unfold bgX
  rw [upo h.2.2.2.2.2.1, upo h.2.2.2.2.1, upo h.2.2.2.1]
  obtain ⟨h4, h9, h11, _, _, _, h7, h8, h10, h25, h26, h27, h28, h29, h30, h31, h32, h33, h34, h35, h36, _⟩ := h
  rw [upo h36, upo h35, upo h34, upo h33, upo h32, upo h31, upo h30, upo h29, upo h28, upo h27, upo h11, upo h9, upo h8, upo h26, upo h7, upo h25, upo h10, upo h4]
theorem bgX_v [Inhabited fz_] : bgX M x1 0 4 = 1 ∧ bgX M x1 0 10 = x1 ∧ bgX M x1 0 8 = 1 ∧ ∀ i : Int, i ∈ [25, 7, 26, 9, 11, 27, 28, 29, 30, 31, 32, 33, 34, 35, 36, 62, 63, 64] → bgX M x1 0 i = 0 := by
  refine ⟨?_, ?_, ?_, fun i hi => ?_⟩
  · unfold bgX; simp [up_]
  · unfold bgX; simp [up_]
  · unfold bgX; simp [up_]
  · simp only [List.mem_cons, List.not_mem_nil, or_false] at hi
    rcases hi with e | e | e | e | e | e | e | e | e | e | e | e | e | e | e | e | e | e <;> (subst e; unfold bgX; simp [up_])
theorem bgQ_r [Inhabited fz_] {r : Nat} (h : r ≠ 6) (h' : r ≠ 239) : bgQ N x1 r = N r := by unfold bgQ; simp only [up_ne h, up_ne h']
theorem bgQ_239 [Inhabited fz_] : bgQ N x1 239 = up_ N 239 1 1 239 := by unfold bgQ; simp only [up_ne (show (239 : Nat) ≠ 6 by decide)]
theorem bgQ_o [Inhabited fz_] {i : Int} (h : i ∉ 126 :: 128 :: 130 :: 163 :: 164 :: 169 :: qfL) : bgQ N x1 6 i = N 6 i := by
  simp only [qfL, List.mem_cons, List.not_mem_nil, or_false, not_or] at h
  obtain ⟨h126, h128, h130, h163, h164, h169, h127, h129, h131, h132, h133, h134, h135, h136, h137, h138, h139, h142, h143, h144, h145, _⟩ := h
  unfold bgQ
  rw [upo h164, upo h169, upo h163, upo h143, upo h142, upo h145, upo h144, upo h137, upo h136, upo h135, upo h134, upo h133, upo h132, upo h131, upo h130, upo h129, upo h128, upo h127, upo h126, up_ne (by decide)]
theorem bgQ_v [Inhabited fz_] : bgQ N x1 6 126 = 1 ∧ bgQ N x1 6 129 = x1 ∧ ∀ i : Int, i ∈ [127, 128, 130, 131, 132, 133, 134, 135, 136, 137, 144, 145, 142, 143, 163, 169, 164] → bgQ N x1 6 i = 0 := by
  refine ⟨?_, ?_, fun i hi => ?_⟩
  · unfold bgQ; simp [up_]
  · unfold bgQ; simp [up_]
  · simp only [List.mem_cons, List.not_mem_nil, or_false] at hi
    rcases hi with e | e | e | e | e | e | e | e | e | e | e | e | e | e | e | e | e <;> (subst e; unfold bgQ; simp [up_])
def bgX2 (M : mm_) (x1 : Int) : mm_ := wr_ (bgX M x1) 21 (flf (M 21) 0 10 0)
def bgQ2 (N : mm_) (x1 : Int) : mm_ := bgQ (wr_ N 239 (flf (N 239) 0 1104 0)) x1
theorem XBG_b [Inhabited fz_] : XBG M (bgX2 M x1) := ⟨fun r hr => by
    unfold bgX2; rw [wr_ne (fun e => hr (by rw [e]; decide)), bgX_r (fun e => hr (by rw [e]; decide))], fun i hi => by unfold bgX2; rw [wr_ne (by decide)]; exact bgX_o hi⟩
theorem QBG_b [Inhabited fz_] : QBG N (bgQ2 N x1) := ⟨fun r hr => by
    have e1 : r ≠ 6 := fun e => hr (by rw [e]; decide)
    have e2 : r ≠ 239 := fun e => hr (by rw [e]; decide)
    unfold bgQ2; rw [bgQ_r e1 e2, wr_ne e2], fun i hi => by unfold bgQ2; rw [bgQ_o hi, wr_ne (by decide)]⟩
theorem STp_b [Inhabited fz_] (hP : PLr M N) (hb : BAS M N) : STp (bgX2 M x1) (bgQ2 N x1) := by
  obtain ⟨b1, b2, b5⟩ := hb
  obtain ⟨v4, v10, v8, v0⟩ := bgX_v (M := M) (x1 := x1)
  obtain ⟨u126, u129, u0⟩ := bgQ_v (N := wr_ N 239 (flf (N 239) 0 1104 0)) (x1 := x1)
  have X0 : ∀ i, bgX2 M x1 0 i = bgX M x1 0 i := fun i => by unfold bgX2; rw [wr_ne (by decide)]
  have x0 : ∀ i : Int, i ∈ [25, 7, 26, 9, 11, 27, 28, 29, 30, 31, 32, 33, 34, 35, 36, 62, 63, 64] → bgX2 M x1 0 i = 0 := fun i hi => by rw [X0]; exact v0 i hi
  have q0 : ∀ i : Int, i ∈ [127, 128, 130, 131, 132, 133, 134, 135, 136, 137, 144, 145, 142, 143, 163, 169, 164] → bgQ2 N x1 6 i = 0 := fun i hi => u0 i hi
  have x37 : bgX2 M x1 0 37 = M 0 37 := by unfold bgX2; rw [wr_ne (by decide)]; unfold bgX; simp [up_]
  have x38 : bgX2 M x1 0 38 = M 0 38 := by unfold bgX2; rw [wr_ne (by decide)]; unfold bgX; simp [up_]
  have q138 : bgQ2 N x1 6 138 = N 6 138 := by unfold bgQ2 bgQ; simp [up_, wr_]
  have q139 : bgQ2 N x1 6 139 = N 6 139 := by unfold bgQ2 bgQ; simp [up_, wr_]
  have e239 : ∀ i, bgQ2 N x1 239 i = if i = 1 then 1 else if 0 ≤ i ∧ i < 1104 then 0 else N 239 i := fun i => by
    unfold bgQ2
    rw [bgQ_239]
    by_cases c : i = 1
    · rw [c, up_at, if_pos rfl]
    · rw [upo c, if_neg c, wr_same]; unfold flf; rfl
  have z239 : ∀ i, 0 ≤ i → i < 1104 → i ≠ 1 → bgQ2 N x1 239 i = 0 := fun i i0 i1 i2 => by rw [e239, if_neg i2, if_pos ⟨i0, i1⟩]
  have P' := PLr_b (M' := bgX2 M x1) (N' := bgQ2 N x1) hP XBG_b QBG_b
  have h18 := P'.1.2.1
  rw [tbN_6 (by decide)] at h18
  refine ⟨⟨⟨?_, ?_, ?_, ?_⟩, ⟨h18.2, ?_, ?_⟩, ?_, ?_, ?_⟩, P', ⟨?_, ?_, ?_⟩, ?_⟩
  · rw [x0 7 (by decide), z239 0 (by decide) (by decide) (by decide)]; decide
  · rw [X0, v8, e239, if_pos rfl]; decide
  · intro k k0 k1; rw [x0 7 (by decide)] at k1; omega
  · intro k k0 k1 i i0 i1
    rw [x0 7 (by decide)] at k0
    have hB : sB k = 2 + 56 * k := rfl
    exact z239 _ (by omega) (by omega) (by omega)
  · intro r r0 r1
    have hR : sR r = 674 + 43 * r := rfl
    have e21 : bgX2 M x1 21 r = 0 := by unfold bgX2; rw [wr_same]; unfold flf; rw [if_pos (by omega)]
    refine ⟨by rw [e21, z239 _ (by omega) (by omega) (by omega)]; decide, fun q q0 q1 => by rw [e21] at q1; omega, fun i i0 i1 => ?_⟩
    rw [e21] at i0
    exact z239 _ (by omega) (by omega) (by omega)
  · intro r r0 r1 i i0 i1
    have hR : sR r = 674 + 43 * r := rfl
    exact z239 _ (by omega) (by omega) (by omega)
  · unfold RSC
    rw [x0 25 (by decide), q0 127 (by decide), x0 9 (by decide), q0 128 (by decide), X0 10, v10, show bgQ2 N x1 6 129 = x1 from u129, x0 26 (by decide), x0 27 (by decide), x0 28 (by decide), x0 29 (by decide), x0 30 (by decide), x0 31 (by decide), q0 131 (by decide), q0 132 (by decide), q0 133 (by decide), q0 134 (by decide), q0 135 (by decide), q0 136 (by decide), x37, x38, q138, q139]
    exact ⟨⟨rfl, rfl, .inl rfl⟩, ⟨rfl, by decide⟩, ⟨rfl, trivial⟩, ⟨rfl, rfl, rfl, rfl, rfl, rfl⟩, fun c => absurd c (by decide)⟩
  · unfold ROU
    rw [x0 32 (by decide), x0 33 (by decide), x0 34 (by decide), q0 137 (by decide), q0 144 (by decide), q0 145 (by decide)]
    refine ⟨by decide, fun i i0 i1 => ?_⟩
    have e1 : bgX2 M x1 24 = M 24 := by unfold bgX2; rw [wr_ne (by decide), bgX_r (by decide)]
    have e2 : bgQ2 N x1 241 = N 241 := by unfold bgQ2; rw [bgQ_r (by decide) (by decide), wr_ne (by decide)]
    rw [e1, e2]; exact ⟨b1 i i0 i1, fun c => absurd c (by decide)⟩
  · unfold REV
    rw [x0 35 (by decide), x0 36 (by decide), q0 142 (by decide), q0 143 (by decide)]
    refine ⟨by decide, fun i i0 i1 => ?_⟩
    have e1 : bgX2 M x1 23 = M 23 := by unfold bgX2; rw [wr_ne (by decide), bgX_r (by decide)]
    have e2 : bgQ2 N x1 240 = N 240 := by unfold bgQ2; rw [bgQ_r (by decide) (by decide), wr_ne (by decide)]
    rw [e1, e2]; exact ⟨b2 i i0 i1, fun c => absurd c (by decide)⟩
  · intro k k0 k1 k2; rw [z239 0 (by decide) (by decide) (by decide)] at k2; omega
  · intro r r0 r1 r2 q q0 q1 q2
    have hR : sR r = 674 + 43 * r := rfl
    have : bgQ2 N x1 239 (sR r + 0) = 0 := z239 _ (by omega) (by omega) (by omega)
    have q3 : q < bgQ2 N x1 239 (sR r + 0) := q2
    omega
  · intro j
    rw [e239]
    unfold R32
    split
    · decide
    · split
      · decide
      · exact b5 j
  · rw [x0 11 (by decide), q0 130 (by decide)]
end BGa
section BGb
variable {M N : mm_} {x1 T : Int}
/-- instances of one type -/
theorem l_b150 [Inhabited fz_] (hT : 0 ≤ T ∧ T < 6) : ∀ (j : Nat) (x : Int) (M N : mm_), STp M N → T < N 6 19 → M 0 8 ≤ M 0 7 + 1 → 0 ≤ x → x + j = N 168 T → ∃ M' N', RC 2 m_57 150 [rr 0, ii x1, ii T, ii x] M 137 [rr 0, ii x1, ii (T + 1), none] M' ∧ RC 2 m_321 145 [rr 6, ii x1, ii T, ii x] N 135 [rr 6, ii x1, ii (T + 1), none] N' ∧ STp M' N' ∧ (XRF M M' ∧ QRF N N') ∧ M' 0 8 ≤ M' 0 7 + 1 := fun j => by
  induction j with
  | zero =>
    intro x M N h h6 h8 x0 hx
    have pt := (PT_of h.2.1 ⟨hT.1, h6⟩).1.1
    rw [tbN_r (q := 168) (by decide) (by decide), show swc M 120 = M 87 from swc_r (q := 87) (by decide) (by decide)] at pt
    refine ⟨M, N, fun V Qr Qt hV hW g => b_57_150 (Tr_mono _) hV hW _ _ _ _ ⟨hT, ?_⟩, fun V Qr Qt hV hW g => b_321_145 (Tr_mono _) hV hW _ _ _ _ ⟨hT, ?_⟩, h, ⟨XRF_rf, QRF_rf⟩, h8⟩
    · rw [if_neg (by omega), w32_id (x := T + 1) (by omega) (by omega)]; exact g
    · rw [if_neg (by omega), w32_id (x := T + 1) (by omega) (by omega)]; exact g
  | succ j ih =>
    intro x M N h h6 h8 x0 hx
    have n12 := h.1.1.1
    have ptt := PT_of h.2.1 ⟨hT.1, h6⟩
    have pt := ptt.1.1
    rw [tbN_r (q := 168) (by decide) (by decide), show swc M 120 = M 87 from swc_r (q := 87) (by decide) (by decide)] at pt
    have p174 := ptt.2.2.1.1.2.1
    have p172 := ptt.2.2.1.2.2.1.2.1
    rw [tbN_r (q := 174) (by decide) (by decide)] at p174
    rw [tbN_r (q := 172) (by decide) (by decide)] at p172
    by_cases c : M 0 7 < 12
    · have hm := RU_mk (T := T) (p := 0) h.1 c ⟨hT.1, h6⟩ p174 p172
      have tm := TYA_mk (T := T) (p := 0) h.1 h.2.2.1 c (by omega) (by omega) (by unfold R32; omega)
      have kx := mkX_k (M := M) T 0
      obtain ⟨M', N', a1, a2, a3, a4, a5⟩ := ih (x + 1) (mkX M T 0) (mkQ N T 0) ⟨hm, PLr_c h.2.1 XRF_mk QRF_mk, tm, by rw [kx.2.1 11 (by decide), QRF_mk.2 130 (by decide)]; exact h.2.2.2⟩ (by rw [QRF_mk.2 19 (by decide)]; exact h6) (by rw [kx.2.2.1, kx.2.2.2.1]; omega) (by omega) (by rw [QRF_mk.1 168 (by decide)]; omega)
      refine ⟨M', N', RC_tr (fun V Qr Qt hV hW g => b_57_150 (Tr_mono _) hV hW _ _ _ _ ⟨hT, ?_⟩) a1, RC_tr (fun V Qr Qt hV hW g => b_321_145 (Tr_mono _) hV hW _ _ _ _ ⟨hT, ?_⟩) a2, a3, ⟨XRF_tr XRF_mk a4.1, QRF_tr QRF_mk a4.2⟩, a5⟩
      · rw [if_pos (by omega), if_pos c]
        refine x_31 h.1 c (by omega) ⟨hT.1, h6⟩ p174 p172 _ _ (ri_i ?_)
        rw [w32_id (x := x + 1) (by omega) (by omega)]; exact g
      · rw [if_pos (by omega), if_pos (by omega)]
        refine ⟨by decide, q_322 h.1 c (by omega) ⟨hT.1, h6⟩ p174 p172 _ _ (ri_i ?_)⟩
        rw [w32_id (x := x + 1) (by omega) (by omega)]; exact g
    · refine ⟨M, N, fun V Qr Qt hV hW g => b_57_150 (Tr_mono _) hV hW _ _ _ _ ⟨hT, ?_⟩, fun V Qr Qt hV hW g => b_321_145 (Tr_mono _) hV hW _ _ _ _ ⟨hT, ?_⟩, h, ⟨XRF_rf, QRF_rf⟩, h8⟩
      · rw [if_pos (by omega), if_neg c, w32_id (x := T + 1) (by omega) (by omega)]; exact g
      · rw [if_pos (by omega), if_neg (by omega), w32_id (x := T + 1) (by omega) (by omega)]; exact ⟨by decide, g⟩
theorem l_b137 [Inhabited fz_] : ∀ (j : Nat) (T : Int) (M N : mm_), STp M N → M 0 8 ≤ M 0 7 + 1 → 0 ≤ T → T + j = N 6 19 → ∃ v M' N', (∀ (V : vv_) (Qr : qr_) (Qt : qt_), Cl_ wd0 (Tr_ wd0 pg0 2) V Qr Qt m_57 → Wk_ V → Qr [.inl v] M' → V 137 [rr 0, ii x1, ii T, none] [] M) ∧ (∀ (V : vv_) (Qr : qr_) (Qt : qt_), Cl_ wd0 (Tr_ wd0 pg0 2) V Qr Qt m_321 → Wk_ V → Qr [.inl v] N' → V 135 [rr 6, ii x1, ii T, none] [] N) ∧ STp M' N' ∧ (XRF M M' ∧ QRF N N') ∧ M' 0 8 ≤ M' 0 7 + 1 := fun j => by
  induction j with
  | zero =>
    intro T M N h h8 T0 hT
    have n12 := h.1.1.1
    have p := h.2.1.1.2.2
    rw [tbN_6 (by decide), swc_5] at p
    refine ⟨M 0 7, M, N, fun V Qr Qt hV hW g => b_57_137 (Tr_mono _) hV hW _ _ _ ?_, fun V Qr Qt hV hW g => b_321_135 (Tr_mono _) hV hW _ _ _ ?_, h, ⟨XRF_rf, QRF_rf⟩, h8⟩
    · rw [if_neg (by omega)]; exact g
    · rw [if_neg (by omega), n12.2.2]; exact ⟨by decide, g⟩
  | succ j ih =>
    intro T M N h h8 T0 hT
    have p := h.2.1.1.2.2
    rw [tbN_6 (by decide), swc_5] at p
    have pt := (PT_of h.2.1 ⟨T0, by omega⟩).1.1
    rw [tbN_r (q := 168) (by decide) (by decide)] at pt
    obtain ⟨M1, N1, a1, a2, a3, a4, a5⟩ := l_b150 (x1 := x1) (T := T) (by omega) (N 168 T).toNat 0 M N h (by omega) h8 (by decide) (by omega)
    obtain ⟨v, M', N', c1, c2, c3, c4, c5⟩ := ih (T + 1) M1 N1 a3 a5 (by omega) (by rw [a4.2.2 19 (by decide)]; omega)
    refine ⟨v, M', N', fun V Qr Qt hV hW g => b_57_137 (Tr_mono _) hV hW _ _ _ ?_, fun V Qr Qt hV hW g => b_321_135 (Tr_mono _) hV hW _ _ _ ?_, c3, ⟨XRF_tr a4.1 c4.1, QRF_tr a4.2 c4.2⟩, c5⟩
    · rw [if_pos (by omega)]; exact a1 V Qr Qt hV hW (c1 V Qr Qt hV hW g)
    · rw [if_pos (by omega)]; exact a2 V Qr Qt hV hW (c2 V Qr Qt hV hW g)
theorem x_116b [Inhabited fz_] {A : mm_} {V : vv_} {Qr : qr_} {Qt : qt_} (hV : Cl_ wd0 (Tr_ wd0 pg0 2) V Qr Qt m_57) (hW : Wk_ V) (g : V 137 [rr 0, ii x1, ii 0, none] [] (wr_ A 21 (flf (A 21) 0 10 0))) : V 116 [rr 0, ii x1, ii 0, none] [] A := by
  have l : ∀ (j : Nat) (x : Int), x + j = 10 → 0 ≤ x → V 116 [rr 0, ii x1, ii x, none] [] (wr_ A 21 (flf (A 21) 0 x 0)) := fun j => by
    induction j with
    | zero =>
      intro x hx x0
      refine b_57_116 (Tr_mono _) hV hW _ _ _ ?_
      rw [if_neg (by omega), show x = 10 by omega]; exact g
    | succ j ih =>
      intro x hx x0
      refine b_57_116 (Tr_mono _) hV hW _ _ _ ?_
      rw [if_pos (by omega), w32_id (x := x + 1) (by omega) (by omega), flf_s x0]
      exact ⟨by omega, ih (x + 1) (by omega) (by omega)⟩
  have := l 10 0 (by decide) (by decide)
  rw [flf_0, wr_id] at this
  exact this
theorem q_11b [Inhabited fz_] {A : mm_} {V : vv_} {Qr : qr_} {Qt : qt_} (hV : Cl_ wd0 (Tr_ wd0 pg0 2) V Qr Qt m_321) (hW : Wk_ V) (g : V 135 [rr 6, ii x1, ii 0, none] [] (bgQ2 A x1)) : V 11 [rr 6, ii x1, ii 0, none] [] A := by
  have l : ∀ (j : Nat) (x : Int), x + j = 1104 → 0 ≤ x → V 11 [rr 6, ii x1, ii x, none] [] (wr_ A 239 (flf (A 239) 0 x 0)) := fun j => by
    induction j with
    | zero =>
      intro x hx x0
      refine b_321_11 (Tr_mono _) hV hW _ _ _ ?_
      rw [if_neg (by omega), show x = 1104 by omega]; exact ⟨by decide, .inr rfl, .inl rfl, .inl rfl, g⟩
    | succ j ih =>
      intro x hx x0
      refine b_321_11 (Tr_mono _) hV hW _ _ _ ?_
      rw [if_pos (by omega), w32_id (x := x + 1) (by omega) (by omega), flf_s x0]
      exact ⟨by omega, ih (x + 1) (by omega) (by omega)⟩
  have := l 1104 0 (by decide) (by decide)
  rw [flf_0, wr_id] at this
  exact this
theorem j_57 [Inhabited fz_] (hg : M 0 3 = 1 ∧ N 6 6 = 1) (hP : PLr M N) (hb : BAS M N) : ∃ v M' N', Ex_ 3 57 [.inr (.inr 0), .inl x1] M [.inl v] M' ∧ Ex_ 3 321 [.inr (.inr 6), .inl x1] N [.inl v] N' ∧ RNS M' N' ∧ (XBG M M' ∧ QBG N N') ∧ M' 0 8 ≤ 13 ∧ (M' 0 62 = 0 ∧ M' 0 63 = 0 ∧ M' 0 64 = 0) ∧ (N' 6 163 = 0 ∧ N' 6 169 = 0 ∧ N' 6 164 = 0) := by
  have st := STp_b (x1 := x1) hP hb
  obtain ⟨v4, v10, v8, v0⟩ := bgX_v (M := M) (x1 := x1)
  obtain ⟨u126, u129, u0⟩ := bgQ_v (N := wr_ N 239 (flf (N 239) 0 1104 0)) (x1 := x1)
  have X0 : ∀ i, bgX2 M x1 0 i = bgX M x1 0 i := fun i => by unfold bgX2; rw [wr_ne (by decide)]
  have p := st.2.1.1.2.2
  rw [tbN_6 (by decide)] at p
  obtain ⟨v, M', N', a1, a2, a3, a4, a5⟩ := l_b137 (x1 := x1) (bgQ2 N x1 6 19).toNat 0 (bgX2 M x1) (bgQ2 N x1) st (by rw [X0, X0, v8, v0 7 (by decide)]; decide) (by decide) (by omega)
  have n12 := a3.1.1.1
  refine ⟨v, M', N', fun Qr Qt g => t_57 fun V hV hW => b_57_0 (Tr_mono _) hV hW _ _ fun _ => ?_, fun Qr Qt g => t_321 fun V hV hW => b_321_0 (Tr_mono _) hV hW _ _ fun _ => ?_, ⟨a3, by rw [a4.1.2 4 (by decide), X0, v4], by rw [a4.2.2 126 (by decide)]; exact u126⟩, ⟨XBG_tr XBG_b (XBG_g (XRG_f a4.1)), QBG_tr QBG_b (QBG_g (QRG_f a4.2))⟩, by omega, ⟨by rw [a4.1.2 62 (by decide), X0]; exact v0 62 (by decide), by rw [a4.1.2 63 (by decide), X0]; exact v0 63 (by decide), by rw [a4.1.2 64 (by decide), X0]; exact v0 64 (by decide)⟩, by rw [a4.2.2 163 (by decide)]; exact u0 163 (by decide), by rw [a4.2.2 169 (by decide)]; exact u0 169 (by decide), by rw [a4.2.2 164 (by decide)]; exact u0 164 (by decide)⟩
  · rw [if_neg (by omega)]
    refine ⟨.inr rfl, .inl rfl, ?_⟩
    show V 116 [rr 0, ii x1, ii 0, none] [] (bgX M x1)
    refine x_116b hV hW ?_
    rw [bgX_r (r := 21) (by decide)]
    exact a1 V Qr Qt hV hW g
  · rw [if_neg (by omega)]
    exact q_11b hV hW (a2 V Qr Qt hV hW g)
end BGb
end T394_bg
section T395_lk
/-! looks (X 61-69, 71 | Q 368-376, 379) -/
/-- both answer alike and change nothing -/
def SM2 (dx nx : Nat) (ax : List pv_) (dq nq : Nat) (aq : List pv_) (M N : mm_) : Prop := ∃ v, Ex_ dx nx ax M [.inl v] M ∧ Ex_ dq nq aq N [.inl v] N
def LKR [Inhabited fz_] (M N : mm_) : Prop := (M 0 4 = 0 ∧ N 6 126 = 0) ∨ RNS M N
section LOa
variable {z : Int} {M N M' N' M1 N1 M2 N2 : mm_} {s k r T p w n x1 x2 x3 x4 x5 y : Int}
theorem j_61 [Inhabited fz_] (h : LKR M N) : SM2 1 61 [.inr (.inr 0), .inl x1] 2 368 [.inr (.inr 6), .inl x1] M N := by
  rcases h with ⟨a, b⟩ | ⟨h, a, b⟩
  · refine ⟨-1, fun Qr Qt g => t_61 fun V hV hW => b_61_0 (Tr_mono _) hV hW _ _ fun _ => ?_, fun Qr Qt g => t_368 fun V hV hW => b_368_0 (Tr_mono _) hV hW _ _ fun _ => ?_⟩
    · rw [if_pos a]; exact g
    · rw [if_pos b]; exact g
  · have n12 := h.1.1.1
    by_cases c1 : x1 < 0
    · refine ⟨-1, fun Qr Qt g => t_61 fun V hV hW => b_61_0 (Tr_mono _) hV hW _ _ fun _ => ?_, fun Qr Qt g => t_368 fun V hV hW => b_368_0 (Tr_mono _) hV hW _ _ fun _ => ?_⟩
      · rw [if_neg (by omega), if_pos c1]; exact g
      · rw [if_neg (by omega), if_pos c1]; exact g
    · by_cases c2 : x1 < M 0 7
      · have hB : sB x1 = 2 + 56 * x1 := rfl
        have e := (h.1.1.2.2.1 x1 (by omega) c2).1.1
        refine ⟨M 10 x1, fun Qr Qt g => t_61 fun V hV hW => b_61_0 (Tr_mono _) hV hW _ _ fun _ => ?_, fun Qr Qt g => t_368 fun V hV hW => b_368_0 (Tr_mono _) hV hW _ _ fun _ => ?_⟩
        · rw [if_neg (by omega), if_neg c1, if_pos c2]; exact ⟨by omega, g⟩
        · rw [if_neg (by omega), if_neg c1, if_pos (by omega)]
          refine ⟨by decide, q_323 (by omega) _ _ (ri_i ?_)⟩
          rw [← e]; exact ⟨by omega, g⟩
      · refine ⟨-1, fun Qr Qt g => t_61 fun V hV hW => b_61_0 (Tr_mono _) hV hW _ _ fun _ => ?_, fun Qr Qt g => t_368 fun V hV hW => b_368_0 (Tr_mono _) hV hW _ _ fun _ => ?_⟩
        · rw [if_neg (by omega), if_neg c1, if_neg c2]; exact g
        · rw [if_neg (by omega), if_neg c1, if_neg (by omega)]; exact ⟨by decide, g⟩
/-- whose pid is asked for -/
theorem j_370 [Inhabited fz_] (h : LKR M N) (p : Int) : ∃ v, (v = -1 ∨ (RNS M N ∧ (0 ≤ v ∧ v < M 0 7) ∧ M 10 v = p)) ∧ ((M 0 4 = 0 ∧ v = -1) ∨ (M 0 4 = 1 ∧ Ex_ 1 6 [.inr (.inr 0), .inl p] M [.inl v] M)) ∧ Ex_ 3 370 [.inr (.inr 6), .inl p] N [.inl v] N := by
  rcases h with ⟨a, b⟩ | ⟨h, a, b⟩
  · exact ⟨-1, .inl rfl, .inl ⟨a, rfl⟩, fun Qr Qt g => t_370 fun V hV hW => b_370_0 (Tr_mono _) hV hW _ _ fun _ => by rw [if_pos b]; exact g⟩
  · obtain ⟨v, hv, xs, qs⟩ := j_sl h.1 p
    refine ⟨v, ?_, .inr ⟨a, xs⟩, fun Qr Qt g => t_370 fun V hV hW => b_370_0 (Tr_mono _) hV hW _ _ fun _ => ?_⟩
    · rcases hv with e | ⟨e1, e2, _⟩
      · exact .inl e
      · exact .inr ⟨⟨h, a, b⟩, e1, e2⟩
    · rw [if_neg (by omega)]
      by_cases c : p ≤ 0
      · rw [if_pos c]
        have : v = -1 := by rcases hv with e | e; exact e; omega
        subst this; exact g
      · rw [if_neg c]; exact qs _ _ (ri_i g)
theorem j_62 [Inhabited fz_] (h : LKR M N) : ∃ v M' N', Ex_ 6 62 [.inr (.inr 0), .inl x1, .inl x2] M [.inl v] M' ∧ Ex_ 7 369 [.inr (.inr 6), .inl x1, .inl x2] N [.inl v] N' ∧ EGX M M' ∧ EGQ N N' := by
  obtain ⟨v, hv, hx, hq⟩ := j_370 h x1
  have gx : ∀ (w : Int) (M' : mm_), (∀ (V : vv_) (Qr : qr_) (Qt : qt_), Cl_ wd0 (Tr_ wd0 pg0 5) V Qr Qt m_62 → Wk_ V → Qr [.inl w] M' → V 17 [rr 0, ii x1, ii x2, ii v] [] M) → Ex_ 6 62 [.inr (.inr 0), .inl x1, .inl x2] M [.inl w] M' := fun w M' k Qr Qt g => t_62 fun V hV hW => b_62_0 (Tr_mono _) hV hW _ _ _ fun _ => by
    rcases hx with ⟨e, ev⟩ | ⟨e, ex⟩
    · rw [if_pos e]; subst ev; exact k V Qr Qt hV hW g
    · rw [if_neg (by omega)]; exact Ex_le (d := 1) (by decide) ex _ _ (ri_i (k V Qr Qt hV hW g))
  rcases hv with e | ⟨⟨hs, r1, r2⟩, hv, hp⟩
  · subst e
    refine ⟨-1, M, N, gx _ _ fun V Qr Qt hV hW g => b_62_17 (Tr_mono _) hV hW _ _ _ _ ?_, fun Qr Qt g => t_369 fun V hV hW => b_369_0 (Tr_mono _) hV hW _ _ _ (Ex_le (d := 3) (by decide) hq _ _ (ri_i ?_)), EGX_rf, EGQ_rf⟩
    · rw [if_pos rfl]; exact g
    · rw [if_pos (by decide)]; exact g
  · have n12 := hs.1.1.1
    have hB : sB v = 2 + 56 * v := rfl
    have hi := hs.1.1.2.2.1 v hv.1 hv.2
    obtain ⟨⟨i1, i2, i3, i4, i5, i6⟩, _, _, _, ⟨_, _, i7⟩, _⟩ := hi
    have one : ∀ (u : Int), (∀ (V : vv_) (Qr : qr_), Qr [.inl u] M → (if x2 = 0 then (0 ≤ v ∧ v < 12) ∧ Qr [.inl (M 11 v)] M else (if x2 = 1 then (0 ≤ v ∧ v < 12) ∧ Qr [.inl (M 12 v)] M else (if x2 = 2 then (0 ≤ v ∧ v < 12) ∧ Qr [.inl (M 14 v)] M else (if x2 = 3 then (0 ≤ v ∧ v < 12) ∧ Qr [.inl (M 18 v)] M else (if x2 = 4 then (0 ≤ v ∧ v < 12) ∧ Qr [.inl (M 19 v)] M else (if x2 = 5 then (0 ≤ v ∧ v < 12) ∧ Qr [.inl (M 20 v)] M else Qr [.inl (-1)] M))))))) → x2 ≠ 6 → (∀ (Qr : qr_), Qr [.inl u] N → (if x2 = 0 then (0 ≤ sB v + 1 ∧ sB v + 1 < 1104) ∧ Qr [.inl (N 239 (sB v + 1))] N else (if x2 = 1 then (0 ≤ sB v + 2 ∧ sB v + 2 < 1104) ∧ Qr [.inl (N 239 (sB v + 2))] N else (if x2 = 2 then (0 ≤ sB v + 25 ∧ sB v + 25 < 1104) ∧ Qr [.inl (N 239 (sB v + 25))] N else (if x2 = 3 then (0 ≤ sB v + 3 ∧ sB v + 3 < 1104) ∧ Qr [.inl (N 239 (sB v + 3))] N else (if x2 = 4 then (0 ≤ sB v + 4 ∧ sB v + 4 < 1104) ∧ Qr [.inl (N 239 (sB v + 4))] N else (if x2 = 5 then (0 ≤ sB v + 5 ∧ sB v + 5 < 1104) ∧ Qr [.inl (N 239 (sB v + 5))] N else Qr [.inl (-1)] N))))))) → ∃ v M' N', Ex_ 6 62 [.inr (.inr 0), .inl x1, .inl x2] M [.inl v] M' ∧ Ex_ 7 369 [.inr (.inr 6), .inl x1, .inl x2] N [.inl v] N' ∧ EGX M M' ∧ EGQ N N' := fun u kx n6 kq => by
      refine ⟨u, M, N, gx _ _ fun V Qr Qt hV hW g => b_62_17 (Tr_mono _) hV hW _ _ _ _ ?_, fun Qr Qt g => t_369 fun V hV hW => b_369_0 (Tr_mono _) hV hW _ _ _ (Ex_le (d := 3) (by decide) hq _ _ (ri_i ?_)), EGX_rf, EGQ_rf⟩
      · rw [if_neg (by omega), if_neg (c := x2 = 6) n6]; exact kx V Qr g
      · rw [if_neg (by omega)]
        refine Ex_le (d := 1) (by decide) (q_323 (by omega)) _ _ (ri_i ?_)
        rw [if_neg (c := x2 = 6) n6, w32_id (x := sB v + 1) (by omega) (by omega), w32_id (x := sB v + 2) (by omega) (by omega), w32_id (x := sB v + 25) (by omega) (by omega), w32_id (x := sB v + 3) (by omega) (by omega), w32_id (x := sB v + 4) (by omega) (by omega), w32_id (x := sB v + 5) (by omega) (by omega)]
        exact kq Qr g
    have hv12 : 0 ≤ v ∧ v < 12 := by omega
    by_cases c0 : x2 = 0
    · exact one (M 11 v) (fun V Qr g => by rw [if_pos c0]; exact ⟨hv12, g⟩) (by omega) (fun Qr g => by rw [if_pos c0, ← i2]; exact ⟨by omega, g⟩)
    by_cases c1 : x2 = 1
    · exact one (M 12 v) (fun V Qr g => by rw [if_neg c0, if_pos c1]; exact ⟨hv12, g⟩) (by omega) (fun Qr g => by rw [if_neg c0, if_pos c1, ← i3]; exact ⟨by omega, g⟩)
    by_cases c2 : x2 = 2
    · exact one (M 14 v) (fun V Qr g => by rw [if_neg c0, if_neg c1, if_pos c2]; exact ⟨hv12, g⟩) (by omega) (fun Qr g => by rw [if_neg c0, if_neg c1, if_pos c2, i7]; exact ⟨by omega, g⟩)
    by_cases c3 : x2 = 3
    · exact one (M 18 v) (fun V Qr g => by rw [if_neg c0, if_neg c1, if_neg c2, if_pos c3]; exact ⟨hv12, g⟩) (by omega) (fun Qr g => by rw [if_neg c0, if_neg c1, if_neg c2, if_pos c3, ← i4]; exact ⟨by omega, g⟩)
    by_cases c4 : x2 = 4
    · exact one (M 19 v) (fun V Qr g => by rw [if_neg c0, if_neg c1, if_neg c2, if_neg c3, if_pos c4]; exact ⟨hv12, g⟩) (by omega) (fun Qr g => by rw [if_neg c0, if_neg c1, if_neg c2, if_neg c3, if_pos c4, ← i5]; exact ⟨by omega, g⟩)
    by_cases c5 : x2 = 5
    · exact one (M 20 v) (fun V Qr g => by rw [if_neg c0, if_neg c1, if_neg c2, if_neg c3, if_neg c4, if_pos c5]; exact ⟨hv12, g⟩) (by omega) (fun Qr g => by rw [if_neg c0, if_neg c1, if_neg c2, if_neg c3, if_neg c4, if_pos c5, ← i6]; exact ⟨by omega, g⟩)
    by_cases c6 : x2 = 6
    · obtain ⟨w, M', N', xw, qw, ex, eq, _⟩ := j_12 (s := v) hs.1 hs.2.1 hs.2.2.1 hv
      refine ⟨w, M', N', gx _ _ fun V Qr Qt hV hW g => b_62_17 (Tr_mono _) hV hW _ _ _ _ ?_, fun Qr Qt g => t_369 fun V hV hW => b_369_0 (Tr_mono _) hV hW _ _ _ (Ex_le (d := 3) (by decide) hq _ _ (ri_i ?_)), ex, eq⟩
      · rw [if_neg (by omega), if_neg c0, if_neg c1, if_neg c2, if_neg c3, if_neg c4, if_neg c5, if_pos c6]; exact xw _ _ (ri_i g)
      · rw [if_neg (by omega)]
        refine Ex_le (d := 1) (by decide) (q_323 (by omega)) _ _ (ri_i ?_)
        rw [if_neg c0, if_neg c1, if_neg c2, if_neg c3, if_neg c4, if_neg c5, if_pos c6]; exact qw _ _ (ri_i g)
    · exact one (-1) (fun V Qr g => by rw [if_neg c0, if_neg c1, if_neg c2, if_neg c3, if_neg c4, if_neg c5]; exact g) c6 (fun Qr g => by rw [if_neg c0, if_neg c1, if_neg c2, if_neg c3, if_neg c4, if_neg c5]; exact g)
theorem PL_T [Inhabited fz_] (hP : PLr M N) (hT : 0 ≤ T ∧ T < N 6 19) : T < 6 ∧ (M 87 T = N 168 T ∧ M 88 T = N 169 T) ∧ (M 90 T = N 174 T ∧ (M 92 T = N 172 T ∧ 0 ≤ N 172 T ∧ N 172 T ≤ 16) ∧ (M 93 T = N 173 T ∧ 0 ≤ N 173 T ∧ N 173 T ≤ 3)) := by
  have p6 := hP.1.2.2
  rw [tbN_6 (by decide)] at p6
  obtain ⟨⟨⟨a1, _⟩, a2, _⟩, _, ⟨⟨b1, _⟩, _, b2, b3, _⟩, _⟩ := PT_of hP hT
  rw [tbN_r (q := 168) (by decide) (by decide), show swc M 120 = M 87 from swc_r (q := 87) (by decide) (by decide)] at a1
  rw [tbN_r (q := 169) (by decide) (by decide), show swc M 121 = M 88 from swc_r (q := 88) (by decide) (by decide)] at a2
  rw [tbN_r (q := 174) (by decide) (by decide), show swc M 123 = M 90 from swc_r (q := 90) (by decide) (by decide)] at b1
  rw [tbN_r (q := 172) (by decide) (by decide), show swc M 125 = M 92 from swc_r (q := 92) (by decide) (by decide)] at b2
  rw [tbN_r (q := 173) (by decide) (by decide), show swc M 126 = M 93 from swc_r (q := 93) (by decide) (by decide)] at b3
  exact ⟨by omega, ⟨a1, a2⟩, b1, b2, b3⟩
theorem j_63 [Inhabited fz_] (h : LKR M N) : SM2 3 63 [.inr (.inr 0), .inl x1, .inl x2] 4 371 [.inr (.inr 6), .inl x1, .inl x2] M N := by
  obtain ⟨v, hv, hx, hq⟩ := j_370 h x1
  have gx : ∀ (w : Int), (∀ (V : vv_) (Qr : qr_) (Qt : qt_), Cl_ wd0 (Tr_ wd0 pg0 2) V Qr Qt m_63 → Wk_ V → Qr [.inl w] M → V 17 [rr 0, ii x1, ii x2, ii v] [] M) → Ex_ 3 63 [.inr (.inr 0), .inl x1, .inl x2] M [.inl w] M := fun w k Qr Qt g => t_63 fun V hV hW => b_63_0 (Tr_mono _) hV hW _ _ _ fun _ => by
    rcases hx with ⟨e, ev⟩ | ⟨e, ex⟩
    · rw [if_pos e]; subst ev; exact k V Qr Qt hV hW g
    · rw [if_neg (by omega)]; exact Ex_le (d := 1) (by decide) ex _ _ (ri_i (k V Qr Qt hV hW g))
  rcases hv with e | ⟨⟨hs, r1, r2⟩, hv, hp⟩
  · subst e
    refine ⟨0, gx _ fun V Qr Qt hV hW g => b_63_17 (Tr_mono _) hV hW _ _ _ _ ?_, fun Qr Qt g => t_371 fun V hV hW => b_371_0 (Tr_mono _) hV hW _ _ _ (Ex_le (d := 3) (by decide) hq _ _ (ri_i ?_))⟩
    · rw [if_pos rfl]; exact g
    · rw [if_pos (by decide)]; exact g
  · have n12 := hs.1.1.1
    have hB : sB v = 2 + 56 * v := rfl
    have hi := hs.1.1.2.2.1 v hv.1 hv.2
    have pt := PL_T hs.2.1 hi.2.1.2.1
    have hT := hi.2.1.2.1
    have i2 := hi.1.2.1
    by_cases c1 : x2 < 0
    · refine ⟨0, gx _ fun V Qr Qt hV hW g => b_63_17 (Tr_mono _) hV hW _ _ _ _ ?_, fun Qr Qt g => t_371 fun V hV hW => b_371_0 (Tr_mono _) hV hW _ _ _ (Ex_le (d := 3) (by decide) hq _ _ (ri_i ?_))⟩
      · rw [if_neg (by omega), if_pos c1]; exact g
      · rw [if_neg (by omega), if_pos c1]; exact g
    · by_cases c2 : x2 < N 172 (M 11 v)
      · have e := hi.2.2.1.1 x2 (by omega) (by omega)
        refine ⟨M 13 (16 * v + x2), gx _ fun V Qr Qt hV hW g => b_63_17 (Tr_mono _) hV hW _ _ _ _ ?_, fun Qr Qt g => t_371 fun V hV hW => b_371_0 (Tr_mono _) hV hW _ _ _ (Ex_le (d := 3) (by decide) hq _ _ (ri_i ?_))⟩
        · rw [if_neg (by omega), if_neg c1, if_pos (by omega), w32_id (x := 16 * v) (by omega) (by omega), w32_id (x := 16 * v + x2) (by omega) (by omega)]
          exact ⟨by omega, by omega, by omega, g⟩
        · rw [if_neg (by omega), if_neg c1]
          refine Ex_le (d := 1) (by decide) (q_323 (by omega)) _ _ (ri_i ?_)
          rw [w32_id (x := sB v + 1) (by omega) (by omega), ← i2, if_pos c2]
          refine ⟨by omega, by omega, Ex_le (d := 1) (by decide) (q_323 (by omega)) _ _ (ri_i ?_)⟩
          rw [w32_id (x := sB v + 6) (by omega) (by omega), w32_id (x := sB v + 6 + x2) (by omega) (by omega), ← e]
          exact ⟨by omega, g⟩
      · refine ⟨0, gx _ fun V Qr Qt hV hW g => b_63_17 (Tr_mono _) hV hW _ _ _ _ ?_, fun Qr Qt g => t_371 fun V hV hW => b_371_0 (Tr_mono _) hV hW _ _ _ (Ex_le (d := 3) (by decide) hq _ _ (ri_i ?_))⟩
        · rw [if_neg (by omega), if_neg c1, if_neg (by omega)]
          exact ⟨by omega, by omega, g⟩
        · rw [if_neg (by omega), if_neg c1]
          refine Ex_le (d := 1) (by decide) (q_323 (by omega)) _ _ (ri_i ?_)
          rw [w32_id (x := sB v + 1) (by omega) (by omega), ← i2, if_neg c2]
          exact ⟨by omega, by omega, g⟩
theorem j_64 [Inhabited fz_] (h : LKR M N) : SM2 3 64 [.inr (.inr 0), .inl x1, .inl x2] 4 372 [.inr (.inr 6), .inl x1, .inl x2] M N := by
  obtain ⟨v, hv, hx, hq⟩ := j_370 h x1
  have gx : ∀ (w : Int), (∀ (V : vv_) (Qr : qr_) (Qt : qt_), Cl_ wd0 (Tr_ wd0 pg0 2) V Qr Qt m_64 → Wk_ V → Qr [.inl w] M → V 17 [rr 0, ii x1, ii x2, ii v] [] M) → Ex_ 3 64 [.inr (.inr 0), .inl x1, .inl x2] M [.inl w] M := fun w k Qr Qt g => t_64 fun V hV hW => b_64_0 (Tr_mono _) hV hW _ _ _ fun _ => by
    rcases hx with ⟨e, ev⟩ | ⟨e, ex⟩
    · rw [if_pos e]; subst ev; exact k V Qr Qt hV hW g
    · rw [if_neg (by omega)]; exact Ex_le (d := 1) (by decide) ex _ _ (ri_i (k V Qr Qt hV hW g))
  rcases hv with e | ⟨⟨hs, r1, r2⟩, hv, hp⟩
  · subst e
    refine ⟨-1, gx _ fun V Qr Qt hV hW g => b_64_17 (Tr_mono _) hV hW _ _ _ _ ?_, fun Qr Qt g => t_372 fun V hV hW => b_372_0 (Tr_mono _) hV hW _ _ _ (Ex_le (d := 3) (by decide) hq _ _ (ri_i ?_))⟩
    · rw [if_pos rfl]; exact g
    · rw [if_pos (by decide)]; exact g
  · have n12 := hs.1.1.1
    have hB : sB v = 2 + 56 * v := rfl
    have hi := hs.1.1.2.2.1 v hv.1 hv.2
    have pt := PL_T hs.2.1 hi.2.1.2.1
    have hT := hi.2.1.2.1
    have i2 := hi.1.2.1
    by_cases c1 : x2 < 0
    · refine ⟨-1, gx _ fun V Qr Qt hV hW g => b_64_17 (Tr_mono _) hV hW _ _ _ _ ?_, fun Qr Qt g => t_372 fun V hV hW => b_372_0 (Tr_mono _) hV hW _ _ _ (Ex_le (d := 3) (by decide) hq _ _ (ri_i ?_))⟩
      · rw [if_neg (by omega), if_pos c1]; exact g
      · rw [if_neg (by omega), if_pos c1]; exact g
    · have q2 : ∀ (Qr : qr_) (u : Int) (V : vv_) (Qt : qt_), Qr [.inl u] N → (x2 < N 173 (M 11 v) → u = N 239 (sB v + 22 + x2)) → (¬ x2 < N 173 (M 11 v) → u = -1) → Cl_ wd0 (Tr_ wd0 pg0 3) V Qr Qt m_372 → Wk_ V → V 0 [rr 6, ii x1, ii x2, none] [] N := fun Qr u V Qt g k1 k2 hV hW => b_372_0 (Tr_mono _) hV hW _ _ _ (Ex_le (d := 3) (by decide) hq _ _ (ri_i (by
        rw [if_neg (by omega), if_neg c1]
        refine Ex_le (d := 1) (by decide) (q_323 (by omega)) _ _ (ri_i ?_)
        rw [w32_id (x := sB v + 1) (by omega) (by omega), ← i2]
        refine ⟨by omega, by omega, ?_⟩
        by_cases c2 : x2 < N 173 (M 11 v)
        · rw [if_pos c2]
          refine Ex_le (d := 1) (by decide) (q_323 (by omega)) _ _ (ri_i ?_)
          rw [w32_id (x := sB v + 22) (by omega) (by omega), w32_id (x := sB v + 22 + x2) (by omega) (by omega), ← k1 c2]
          exact ⟨by omega, g⟩
        · rw [if_neg c2, ← k2 c2]; exact g)))
      by_cases c3 : x2 < 3
      · have tm := hi.2.2.2.1 x2 (by omega) c3
        have w3 : w32 (w32 (3 * v) + x2) = 3 * v + x2 := by rw [w32_id (x := 3 * v) (by omega) (by omega), w32_id (by omega) (by omega)]
        rcases tm.1 with ⟨d1, d2, d3⟩ | ⟨d1, d2⟩
        · have d4 : M 17 (3 * v + x2) = N 239 (sB v + 22 + x2) := by omega
          refine ⟨M 17 (3 * v + x2), gx _ fun V Qr Qt hV hW g => b_64_17 (Tr_mono _) hV hW _ _ _ _ ?_, fun Qr Qt g => t_372 fun V hV hW => q2 Qr _ V Qt g (fun _ => d4) (fun c => by have := tm.2 (by omega); omega) hV hW⟩
          rw [if_neg (by omega), if_neg c1, if_pos c3, w3]
          refine ⟨by omega, fun _ => ?_⟩
          rw [if_neg (by omega)]; exact ⟨by omega, g⟩
        · refine ⟨-1, gx _ fun V Qr Qt hV hW g => b_64_17 (Tr_mono _) hV hW _ _ _ _ ?_, fun Qr Qt g => t_372 fun V hV hW => q2 Qr _ V Qt g (fun _ => d2.symm) (fun c => rfl) hV hW⟩
          rw [if_neg (by omega), if_neg c1, if_pos c3, w3]
          refine ⟨by omega, fun _ => ?_⟩
          rw [if_pos d1]; exact g
      · refine ⟨-1, gx _ fun V Qr Qt hV hW g => b_64_17 (Tr_mono _) hV hW _ _ _ _ ?_, fun Qr Qt g => t_372 fun V hV hW => q2 Qr _ V Qt g (fun c => by omega) (fun c => rfl) hV hW⟩
        rw [if_neg (by omega), if_neg c1, if_neg c3]; exact g
theorem j_65 [Inhabited fz_] (h : LKR M N) : SM2 3 65 [.inr (.inr 0), .inl x1, .inl x2, .inl x3] 4 373 [.inr (.inr 6), .inl x1, .inl x2, .inl x3] M N := by
  obtain ⟨v, hv, hx, hq⟩ := j_370 h x1
  have gx : ∀ (w : Int), (∀ (V : vv_) (Qr : qr_) (Qt : qt_), Cl_ wd0 (Tr_ wd0 pg0 2) V Qr Qt m_65 → Wk_ V → Qr [.inl w] M → V 18 [rr 0, ii x1, ii x2, ii x3, ii v] [] M) → Ex_ 3 65 [.inr (.inr 0), .inl x1, .inl x2, .inl x3] M [.inl w] M := fun w k Qr Qt g => t_65 fun V hV hW => b_65_0 (Tr_mono _) hV hW _ _ _ _ fun _ => by
    rcases hx with ⟨e, ev⟩ | ⟨e, ex⟩
    · rw [if_pos e]; subst ev; exact k V Qr Qt hV hW g
    · rw [if_neg (by omega)]; exact Ex_le (d := 1) (by decide) ex _ _ (ri_i (k V Qr Qt hV hW g))
  rcases hv with e | ⟨⟨hs, r1, r2⟩, hv, hp⟩
  · subst e
    refine ⟨-1, gx _ fun V Qr Qt hV hW g => b_65_18 (Tr_mono _) hV hW _ _ _ _ _ ?_, fun Qr Qt g => t_373 fun V hV hW => b_373_0 (Tr_mono _) hV hW _ _ _ _ (Ex_le (d := 3) (by decide) hq _ _ (ri_i ?_))⟩
    · rw [if_pos rfl]; exact g
    · rw [if_pos (by decide)]; exact g
  · have n12 := hs.1.1.1
    have hB : sB v = 2 + 56 * v := rfl
    have hi := hs.1.1.2.2.1 v hv.1 hv.2
    obtain ⟨⟨q0, q6, q25⟩, qe, _⟩ := hi.2.2.2.2
    have w25 : w32 (sB v + 25) = sB v + 25 := w32_id (by omega) (by omega)
    by_cases c1 : x2 < 0
    · refine ⟨-1, gx _ fun V Qr Qt hV hW g => b_65_18 (Tr_mono _) hV hW _ _ _ _ _ ?_, fun Qr Qt g => t_373 fun V hV hW => b_373_0 (Tr_mono _) hV hW _ _ _ _ (Ex_le (d := 3) (by decide) hq _ _ (ri_i ?_))⟩
      · rw [if_neg (by omega), if_pos c1]; exact g
      · rw [if_neg (by omega), if_pos c1]; exact g
    · by_cases c2 : x2 < M 14 v
      · by_cases c3 : x3 < 0
        · refine ⟨-1, gx _ fun V Qr Qt hV hW g => b_65_18 (Tr_mono _) hV hW _ _ _ _ _ ?_, fun Qr Qt g => t_373 fun V hV hW => b_373_0 (Tr_mono _) hV hW _ _ _ _ (Ex_le (d := 3) (by decide) hq _ _ (ri_i ?_))⟩
          · rw [if_neg (by omega), if_neg c1, if_pos c2, if_pos c3]; exact ⟨by omega, g⟩
          · rw [if_neg (by omega), if_neg c1]
            refine Ex_le (d := 1) (by decide) (q_323 (by omega)) _ _ (ri_i ?_)
            rw [w25, if_pos (by omega), if_pos c3]; exact ⟨by omega, g⟩
        · by_cases c4 : x3 ≤ 4
          · have e := qe (5 * x2 + x3) (by omega) (by omega)
            refine ⟨M 15 (30 * v + (5 * x2 + x3)), gx _ fun V Qr Qt hV hW g => b_65_18 (Tr_mono _) hV hW _ _ _ _ _ ?_, fun Qr Qt g => t_373 fun V hV hW => b_373_0 (Tr_mono _) hV hW _ _ _ _ (Ex_le (d := 3) (by decide) hq _ _ (ri_i ?_))⟩
            · rw [if_neg (by omega), if_neg c1, if_pos c2, if_neg c3, if_pos c4]
              refine ⟨by omega, Ex_le (d := 1) (by decide) (x_9 (by omega) (by omega)) _ _ (ri_i ?_)⟩
              rw [w32_id (x := 30 * v + 5 * x2 + x3) (by omega) (by omega), show 30 * v + 5 * x2 + x3 = 30 * v + (5 * x2 + x3) by omega]
              exact ⟨by omega, g⟩
            · rw [if_neg (by omega), if_neg c1]
              refine Ex_le (d := 1) (by decide) (q_323 (by omega)) _ _ (ri_i ?_)
              rw [w25, if_pos (by omega), if_neg c3, if_pos (by omega)]
              refine ⟨by omega, Ex_le (d := 1) (by decide) (q_323 (by omega)) _ _ (ri_i ?_)⟩
              rw [w25, w32_id (x := sB v + 25 + 1) (by omega) (by omega), w32_id (x := 5 * x2) (by omega) (by omega), w32_id (x := sB v + 25 + 1 + 5 * x2) (by omega) (by omega), w32_id (x := sB v + 25 + 1 + 5 * x2 + x3) (by omega) (by omega), show sB v + 25 + 1 + 5 * x2 + x3 = sB v + 26 + (5 * x2 + x3) by omega, ← e]
              exact ⟨by omega, g⟩
          · refine ⟨-1, gx _ fun V Qr Qt hV hW g => b_65_18 (Tr_mono _) hV hW _ _ _ _ _ ?_, fun Qr Qt g => t_373 fun V hV hW => b_373_0 (Tr_mono _) hV hW _ _ _ _ (Ex_le (d := 3) (by decide) hq _ _ (ri_i ?_))⟩
            · rw [if_neg (by omega), if_neg c1, if_pos c2, if_neg c3, if_neg c4]; exact ⟨by omega, g⟩
            · rw [if_neg (by omega), if_neg c1]
              refine Ex_le (d := 1) (by decide) (q_323 (by omega)) _ _ (ri_i ?_)
              rw [w25, if_pos (by omega), if_neg c3, if_neg (by omega)]; exact ⟨by omega, g⟩
      · refine ⟨-1, gx _ fun V Qr Qt hV hW g => b_65_18 (Tr_mono _) hV hW _ _ _ _ _ ?_, fun Qr Qt g => t_373 fun V hV hW => b_373_0 (Tr_mono _) hV hW _ _ _ _ (Ex_le (d := 3) (by decide) hq _ _ (ri_i ?_))⟩
        · rw [if_neg (by omega), if_neg c1, if_neg c2]; exact ⟨by omega, g⟩
        · rw [if_neg (by omega), if_neg c1]
          refine Ex_le (d := 1) (by decide) (q_323 (by omega)) _ _ (ri_i ?_)
          rw [w25, if_neg (by omega)]; exact ⟨by omega, g⟩
end LOa
end T395_lk
section T396_lk
/-! looks (X 66-71 | Q 374-379) -/
section LPa
variable {z : Int} {M N M' N' M1 N1 M2 N2 : mm_} {s k r T p w n x1 x2 x3 x4 x5 y : Int}
theorem j_66 [Inhabited fz_] (h : LKR M N) : SM2 2 66 [.inr (.inr 0), .inl x1, .inl x2, .inl x3] 2 374 [.inr (.inr 6), .inl x1, .inl x2, .inl x3] M N := by
  have no : ∀ (_ : (M 0 4 = 0 ∧ N 6 126 = 0) ∨ (RNS M N ∧ (x1 < 0 ∨ ¬ x1 < N 6 18 ∨ x2 < 0 ∨ ¬ x2 < M 21 x1 ∨ x3 < 0 ∨ ¬ x3 ≤ 6))), SM2 2 66 [.inr (.inr 0), .inl x1, .inl x2, .inl x3] 2 374 [.inr (.inr 6), .inl x1, .inl x2, .inl x3] M N := fun hc => by
    refine ⟨-1, fun Qr Qt g => t_66 fun V hV hW => b_66_0 (Tr_mono _) hV hW _ _ _ _ fun _ => ?_, fun Qr Qt g => t_374 fun V hV hW => b_374_0 (Tr_mono _) hV hW _ _ _ _ fun _ => ?_⟩
    · by_cases c : M 0 4 = 0
      · rw [if_pos c]; exact g
      · rw [if_neg c]
        obtain ⟨⟨hs, r1, r2⟩, hc⟩ := hc.resolve_left (fun e => c e.1)
        have p1 := (PLr_93 hs.2.1).1
        have h18 := hs.1.2.1.1
        by_cases c1 : x1 < 0
        · rw [if_pos c1]; exact g
        · rw [if_neg c1]
          by_cases c2 : x1 < N 6 18
          · rw [if_pos (by omega)]
            by_cases c3 : x2 < 0
            · rw [if_pos c3]; exact g
            · rw [if_neg c3]
              refine ⟨by omega, ?_⟩
              by_cases c4 : x2 < M 21 x1
              · rw [if_pos c4]
                by_cases c5 : x3 < 0
                · rw [if_pos c5]; exact g
                · rw [if_neg c5, if_neg (by omega)]; exact g
              · rw [if_neg c4]; exact g
          · rw [if_neg (by omega)]; exact g
    · by_cases c : N 6 126 = 0
      · rw [if_pos c]; exact g
      · rw [if_neg c]
        obtain ⟨⟨hs, r1, r2⟩, hc⟩ := hc.resolve_left (fun e => c e.2)
        have h18 := hs.1.2.1.1
        by_cases c1 : x1 < 0
        · rw [if_pos c1]; exact g
        · rw [if_neg c1]
          by_cases c2 : x1 < N 6 18
          · rw [if_pos c2]
            have ro := (hs.1.2.1.2.1 x1 (by omega) c2).1
            have hR : sR x1 = 674 + 43 * x1 := rfl
            by_cases c3 : x2 < 0
            · rw [if_pos c3]; exact g
            · rw [if_neg c3]
              refine q_327 (by omega) _ _ (ri_i ⟨by omega, ?_⟩)
              by_cases c4 : x2 < M 21 x1
              · rw [if_pos (by omega)]
                by_cases c5 : x3 < 0
                · rw [if_pos c5]; exact g
                · rw [if_neg c5, if_neg (by omega)]; exact g
              · rw [if_neg (by omega)]; exact g
          · rw [if_neg c2]; exact g
  rcases h with h | h
  · exact no (.inl h)
  by_cases c : x1 < 0 ∨ ¬ x1 < N 6 18 ∨ x2 < 0 ∨ ¬ x2 < M 21 x1 ∨ x3 < 0 ∨ ¬ x3 ≤ 6
  · exact no (.inr ⟨h, c⟩)
  · obtain ⟨hs, r1, r2⟩ := h
    have p1 := (PLr_93 hs.2.1).1
    have h18 := hs.1.2.1.1
    obtain ⟨ro, rq, _⟩ := hs.1.2.1.2.1 x1 (by omega) (by omega)
    have hR : sR x1 = 674 + 43 * x1 := rfl
    obtain ⟨e1, e2, e3, _⟩ := rq x2 (by omega) (by omega)
    have e : M 22 (42 * x1 + 7 * x2 + x3) = N 239 (sR x1 + 1 + 7 * x2 + x3) := by
      by_cases c3 : x3 = 3
      · rw [c3]; exact e3 rfl
      · exact e1 x3 (by omega) (by omega) c3
    refine ⟨M 22 (42 * x1 + 7 * x2 + x3), fun Qr Qt g => t_66 fun V hV hW => b_66_0 (Tr_mono _) hV hW _ _ _ _ fun _ => ?_, fun Qr Qt g => t_374 fun V hV hW => b_374_0 (Tr_mono _) hV hW _ _ _ _ fun _ => ?_⟩
    · rw [if_neg (by omega), if_neg (by omega), if_pos (by omega), if_neg (by omega), if_pos (by omega), if_neg (by omega), if_pos (by omega)]
      refine ⟨by omega, x_2 (by omega) (by omega) _ _ (ri_i ?_)⟩
      rw [w32_id (x := 42 * x1 + 7 * x2 + x3) (by omega) (by omega)]
      exact ⟨by omega, g⟩
    · rw [if_neg (by omega), if_neg (by omega), if_pos (by omega), if_neg (by omega)]
      refine q_327 (by omega) _ _ (ri_i ⟨by omega, ?_⟩)
      rw [if_pos (by omega), if_neg (by omega), if_pos (by omega)]
      refine q_327 (by omega) _ _ (ri_i ?_)
      rw [w32_id (x := sR x1 + 1) (by omega) (by omega), w32_id (x := 7 * x2) (by omega) (by omega), w32_id (x := sR x1 + 1 + 7 * x2) (by omega) (by omega), w32_id (x := sR x1 + 1 + 7 * x2 + x3) (by omega) (by omega), ← e]
      exact ⟨by omega, g⟩
theorem j_67 [Inhabited fz_] (h : LKR M N) : SM2 1 67 [.inr (.inr 0), .inl x1, .inl x2] 1 375 [.inr (.inr 6), .inl x1, .inl x2] M N := by
  by_cases c0 : M 0 4 = 0
  · have c0' : N 6 126 = 0 := by rcases h with h | h; exact h.2; have := h.2.1; omega
    refine ⟨-1, fun Qr Qt g => t_67 fun V hV hW => b_67_0 (Tr_mono _) hV hW _ _ _ fun _ => ?_, fun Qr Qt g => t_375 fun V hV hW => b_375_0 (Tr_mono _) hV hW _ _ _ fun _ => ?_⟩
    · rw [if_pos c0]; exact g
    · rw [if_pos c0']; exact g
  obtain ⟨hs, r1, r2⟩ := h.resolve_left (fun e => c0 e.1)
  obtain ⟨⟨o1, ⟨o2, o3, o4⟩, o5, o6, o7⟩, o8⟩ := hs.1.2.2.2.1
  by_cases c : x1 < 0 ∨ ¬ x1 < M 0 34 ∨ x2 < 0 ∨ ¬ x2 ≤ 5
  · refine ⟨-1, fun Qr Qt g => t_67 fun V hV hW => b_67_0 (Tr_mono _) hV hW _ _ _ fun _ => ?_, fun Qr Qt g => t_375 fun V hV hW => b_375_0 (Tr_mono _) hV hW _ _ _ fun _ => ?_⟩
    · rw [if_neg c0]
      by_cases c1 : x1 < 0
      · rw [if_pos c1]; exact g
      · rw [if_neg c1]
        by_cases c2 : x1 < M 0 34
        · rw [if_pos c2]
          by_cases c3 : x2 < 0
          · rw [if_pos c3]; exact g
          · rw [if_neg c3, if_neg (by omega)]; exact g
        · rw [if_neg c2]; exact g
    · rw [if_neg (by omega)]
      by_cases c1 : x1 < 0
      · rw [if_pos c1]; exact g
      · rw [if_neg c1]
        by_cases c2 : x1 < M 0 34
        · rw [if_pos (by omega)]
          by_cases c3 : x2 < 0
          · rw [if_pos c3]; exact g
          · rw [if_neg c3, if_neg (by omega)]; exact g
        · rw [if_neg (by omega)]; exact g
  · have e1 : w32 (w32 (w32 (M 0 33 + 200) - M 0 34) + x1) = M 0 33 + 200 - M 0 34 + x1 := by
      rw [w32_id (x := M 0 33 + 200) (by omega) (by omega), w32_id (x := M 0 33 + 200 - M 0 34) (by omega) (by omega), w32_id (by omega) (by omega)]
    have e2 : w32 (w32 (w32 (N 6 144 - N 6 145) + x1) + 200) = M 0 33 + 200 - M 0 34 + x1 := by
      rw [w32_id (x := N 6 144 - N 6 145) (by omega) (by omega), w32_id (x := N 6 144 - N 6 145 + x1) (by omega) (by omega), w32_id (by omega) (by omega)]; omega
    have e3 : Int.tmod (M 0 33 + 200 - M 0 34 + x1) 200 = (M 0 33 + 200 - M 0 34 + x1) % 200 := Int.tmod_eq_emod_of_nonneg (by omega)
    generalize ht : (M 0 33 + 200 - M 0 34 + x1) % 200 = t at e3
    have w6 : w32 (w32 (6 * t) + x2) = 6 * t + x2 := by rw [w32_id (x := 6 * t) (by omega) (by omega), w32_id (by omega) (by omega)]
    refine ⟨M 24 (6 * t + x2), fun Qr Qt g => t_67 fun V hV hW => b_67_0 (Tr_mono _) hV hW _ _ _ fun _ => ?_, fun Qr Qt g => t_375 fun V hV hW => b_375_0 (Tr_mono _) hV hW _ _ _ fun _ => ?_⟩
    · rw [if_neg c0, if_neg (by omega), if_pos (by omega), if_neg (by omega), if_pos (by omega), e1, e3, w6]
      exact ⟨by decide, by omega, g⟩
    · rw [if_neg (by omega), if_neg (by omega), if_pos (by omega), if_neg (by omega), if_pos (by omega), e2, e3, w6, ← (o8 (6 * t + x2) (by omega) (by omega)).1]
      exact ⟨by decide, by omega, g⟩
theorem x_69 [Inhabited fz_] (h35 : 0 ≤ M 0 35 ∧ M 0 35 < 500) (h36 : 0 ≤ M 0 36 ∧ M 0 36 ≤ 500) (h1 : 0 ≤ x1 ∧ x1 < M 0 36) : Ex_ 1 69 [.inr (.inr 0), .inl x1] M [.inl (4 * ((M 0 35 + 500 - M 0 36 + x1) % 500))] M := fun Qr Qt g => t_69 fun V hV hW => b_69_0 (Tr_mono _) hV hW _ _ (by
  have e1 : w32 (w32 (w32 (M 0 35 + 500) - M 0 36) + x1) = M 0 35 + 500 - M 0 36 + x1 := by
    rw [w32_id (x := M 0 35 + 500) (by omega) (by omega), w32_id (x := M 0 35 + 500 - M 0 36) (by omega) (by omega), w32_id (by omega) (by omega)]
  have e3 : Int.tmod (M 0 35 + 500 - M 0 36 + x1) 500 = (M 0 35 + 500 - M 0 36 + x1) % 500 := Int.tmod_eq_emod_of_nonneg (by omega)
  rw [e1, e3, w32_id (by omega) (by omega)]
  exact ⟨by decide, g⟩)
theorem j_68 [Inhabited fz_] (h : LKR M N) : SM2 2 68 [.inr (.inr 0), .inl x1, .inl x2] 1 376 [.inr (.inr 6), .inl x1, .inl x2] M N := by
  by_cases c0 : M 0 4 = 0
  · have c0' : N 6 126 = 0 := by rcases h with h | h; exact h.2; have := h.2.1; omega
    refine ⟨-1, fun Qr Qt g => t_68 fun V hV hW => b_68_0 (Tr_mono _) hV hW _ _ _ fun _ => ?_, fun Qr Qt g => t_376 fun V hV hW => b_376_0 (Tr_mono _) hV hW _ _ _ fun _ => ?_⟩
    · rw [if_pos c0]; exact g
    · rw [if_pos c0']; exact g
  obtain ⟨hs, r1, r2⟩ := h.resolve_left (fun e => c0 e.1)
  obtain ⟨⟨o1, o2, o3, o4, o5⟩, o8⟩ := hs.1.2.2.2.2
  by_cases c : x1 < 0 ∨ ¬ x1 < M 0 36 ∨ x2 < 0 ∨ ¬ x2 ≤ 3
  · refine ⟨-1, fun Qr Qt g => t_68 fun V hV hW => b_68_0 (Tr_mono _) hV hW _ _ _ fun _ => ?_, fun Qr Qt g => t_376 fun V hV hW => b_376_0 (Tr_mono _) hV hW _ _ _ fun _ => ?_⟩
    · rw [if_neg c0]
      by_cases c1 : x1 < 0
      · rw [if_pos c1]; exact g
      · rw [if_neg c1]
        by_cases c2 : x1 < M 0 36
        · rw [if_pos c2]
          by_cases c3 : x2 < 0
          · rw [if_pos c3]; exact g
          · rw [if_neg c3, if_neg (by omega)]; exact g
        · rw [if_neg c2]; exact g
    · rw [if_neg (by omega)]
      by_cases c1 : x1 < 0
      · rw [if_pos c1]; exact g
      · rw [if_neg c1]
        by_cases c2 : x1 < M 0 36
        · rw [if_pos (by omega)]
          by_cases c3 : x2 < 0
          · rw [if_pos c3]; exact g
          · rw [if_neg c3, if_neg (by omega)]; exact g
        · rw [if_neg (by omega)]; exact g
  · have e3 : Int.tmod (N 6 143 + x1) 500 = (N 6 143 + x1) % 500 := Int.tmod_eq_emod_of_nonneg (by omega)
    have e4 : (M 0 35 + 500 - M 0 36 + x1) % 500 = (N 6 143 + x1) % 500 := by omega
    have x69 := x_69 (M := M) (x1 := x1) (by omega) (by omega) (by omega)
    rw [e4] at x69
    generalize ht : (N 6 143 + x1) % 500 = t at *
    refine ⟨M 23 (4 * t + x2), fun Qr Qt g => t_68 fun V hV hW => b_68_0 (Tr_mono _) hV hW _ _ _ fun _ => ?_, fun Qr Qt g => t_376 fun V hV hW => b_376_0 (Tr_mono _) hV hW _ _ _ fun _ => ?_⟩
    · rw [if_neg c0, if_neg (by omega), if_pos (by omega), if_neg (by omega), if_pos (by omega)]
      refine x69 _ _ (ri_i ?_)
      rw [w32_id (x := 4 * t + x2) (by omega) (by omega)]
      exact ⟨by omega, g⟩
    · rw [if_neg (by omega), if_neg (by omega), if_pos (by omega), if_neg (by omega), if_pos (by omega), w32_id (x := N 6 143 + x1) (by omega) (by omega), e3, w32_id (x := 4 * t) (by omega) (by omega), w32_id (x := 4 * t + x2) (by omega) (by omega), ← (o8 (4 * t + x2) (by omega) (by omega)).1]
      exact ⟨by decide, by omega, g⟩
/-- the plan that is there -/
def LDD (M N : mm_) : Prop := (M 0 3 = 0 ∧ N 6 6 = 0) ∨ ((M 0 3 = 1 ∧ N 6 6 = 1) ∧ PLr M N ∧ M 4 36 = N 6 120)
theorem j_71 [Inhabited fz_] (h : LDD M N) : SM2 1 71 [.inr (.inr 0), .inl x1, .inl x2] 1 379 [.inr (.inr 6), .inl x1, .inl x2] M N := by
  rcases h with ⟨a, b⟩ | ⟨⟨a, b⟩, hP, hw⟩
  · refine ⟨-1, fun Qr Qt g => t_71 fun V hV hW => b_71_0 (Tr_mono _) hV hW _ _ _ fun _ => ?_, fun Qr Qt g => t_379 fun V hV hW => b_379_0 (Tr_mono _) hV hW _ _ _ fun _ => ?_⟩
    · rw [if_pos a]; exact g
    · rw [if_pos b]; exact g
  · have p6 := hP.1.2.2
    rw [tbN_6 (by decide), swc_5] at p6
    by_cases c : x1 < 0 ∨ ¬ x1 < N 6 19
    · refine ⟨-1, fun Qr Qt g => t_71 fun V hV hW => b_71_0 (Tr_mono _) hV hW _ _ _ fun _ => ?_, fun Qr Qt g => t_379 fun V hV hW => b_379_0 (Tr_mono _) hV hW _ _ _ fun _ => ?_⟩
      · rw [if_neg (by omega)]
        by_cases c1 : x1 < 0
        · rw [if_pos c1]; exact g
        · rw [if_neg c1, if_neg (by omega)]; exact g
      · rw [if_neg (by omega)]
        by_cases c1 : x1 < 0
        · rw [if_pos c1]; exact g
        · rw [if_neg c1, if_neg (by omega)]; exact g
    · obtain ⟨t6, ⟨a1, a2⟩, b1, b2, b3⟩ := PL_T hP (T := x1) (by omega)
      refine ⟨if x2 = 0 then M 90 x1 else if x2 = 1 then M 92 x1 else if x2 = 2 then M 93 x1 else if x2 = 3 then M 87 x1 else if x2 = 4 then M 88 x1 else -1, fun Qr Qt g => t_71 fun V hV hW => b_71_0 (Tr_mono _) hV hW _ _ _ fun _ => ?_, fun Qr Qt g => t_379 fun V hV hW => b_379_0 (Tr_mono _) hV hW _ _ _ fun _ => ?_⟩
      · rw [if_neg (by omega), if_neg (by omega), if_pos (by omega)]
        by_cases c0 : x2 = 0
        · rw [if_pos c0] at g ⊢; exact ⟨by omega, g⟩
        rw [if_neg c0] at g ⊢
        by_cases c1 : x2 = 1
        · rw [if_pos c1] at g ⊢; exact ⟨by omega, g⟩
        rw [if_neg c1] at g ⊢
        by_cases c2 : x2 = 2
        · rw [if_pos c2] at g ⊢; exact ⟨by omega, g⟩
        rw [if_neg c2] at g ⊢
        by_cases c3 : x2 = 3
        · rw [if_pos c3] at g ⊢; exact ⟨by omega, g⟩
        rw [if_neg c3] at g ⊢
        by_cases c4 : x2 = 4
        · rw [if_pos c4] at g ⊢; exact ⟨by omega, g⟩
        rw [if_neg c4] at g ⊢; exact g
      · rw [if_neg (by omega), if_neg (by omega), if_pos (by omega), ← a1, ← a2, ← b1, ← b2.1, ← b3.1]
        by_cases c0 : x2 = 0
        · rw [if_pos c0] at g ⊢; exact ⟨by omega, g⟩
        rw [if_neg c0] at g ⊢
        by_cases c1 : x2 = 1
        · rw [if_pos c1] at g ⊢; exact ⟨by omega, g⟩
        rw [if_neg c1] at g ⊢
        by_cases c2 : x2 = 2
        · rw [if_pos c2] at g ⊢; exact ⟨by omega, g⟩
        rw [if_neg c2] at g ⊢
        by_cases c3 : x2 = 3
        · rw [if_pos c3] at g ⊢; exact ⟨by omega, g⟩
        rw [if_neg c3] at g ⊢
        by_cases c4 : x2 = 4
        · rw [if_pos c4] at g ⊢; exact ⟨by omega, g⟩
        rw [if_neg c4] at g ⊢; exact g
/-- counts of a search -/
def SCT (M N : mm_) : Prop := M 0 62 = N 6 163 ∧ (M 0 63 = N 6 169 ∧ BV (N 6 169)) ∧ M 0 64 = N 6 164
theorem q_378 [Inhabited fz_] (h : RNS M N) (hs : SCT M N) (h1 : 4 ≤ x1 ∧ x1 ≤ 18) (n14 : x1 ≠ 14) : Ex_ 1 378 [.inr (.inr 6), .inl x1] N [.inl (if x1 = 4 then M 0 9 else if x1 = 5 then M 0 7 else if x1 = 6 then M 0 26 else if x1 = 7 then M 0 27 else if x1 = 8 then M 0 28 else if x1 = 9 then M 0 29 else if x1 = 10 then M 0 30 else if x1 = 11 then M 0 31 else if x1 = 12 then M 0 32 else if x1 = 13 then M 0 36 else if x1 = 14 then M 0 64 else if x1 = 15 then M 0 10 else if x1 = 16 then M 0 62 else if x1 = 17 then M 0 63 else M 0 64)] N := fun Qr Qt g => t_378 fun V hV hW => b_378_0 (Tr_mono _) hV hW _ _ (by
  obtain ⟨⟨⟨u1, u2, u3, u4, u5⟩, _⟩, r1, r2⟩ := h
  obtain ⟨z1, ⟨z2, _⟩, ⟨z3, _⟩, ⟨y1, y2, y3, y4, y5, y6⟩, _⟩ := u3
  obtain ⟨s1, ⟨s2, s2'⟩, s3⟩ := hs
  have n7 := u1.1.2.2
  have o1 := u4.1.1
  have e1 := u5.1.2.1
  rw [z2, ← n7, y1, y2, y3, y4, y5, y6, o1, e1, s3, z3, s1, s2] at g
  by_cases c4 : x1 = 4
  · rw [if_pos c4] at g ⊢; exact g
  rw [if_neg c4] at g ⊢
  by_cases c5 : x1 = 5
  · rw [if_pos c5] at g ⊢; exact ⟨by decide, g⟩
  rw [if_neg c5] at g ⊢
  by_cases c6 : x1 = 6
  · rw [if_pos c6] at g ⊢; exact g
  rw [if_neg c6] at g ⊢
  by_cases c7 : x1 = 7
  · rw [if_pos c7] at g ⊢; exact g
  rw [if_neg c7] at g ⊢
  by_cases c8 : x1 = 8
  · rw [if_pos c8] at g ⊢; exact g
  rw [if_neg c8] at g ⊢
  by_cases c9 : x1 = 9
  · rw [if_pos c9] at g ⊢; exact g
  rw [if_neg c9] at g ⊢
  by_cases c10 : x1 = 10
  · rw [if_pos c10] at g ⊢; exact g
  rw [if_neg c10] at g ⊢
  by_cases c11 : x1 = 11
  · rw [if_pos c11] at g ⊢; exact g
  rw [if_neg c11] at g ⊢
  by_cases c12 : x1 = 12
  · rw [if_pos c12] at g ⊢; exact g
  rw [if_neg c12] at g ⊢
  by_cases c13 : x1 = 13
  · rw [if_pos c13] at g ⊢; exact g
  rw [if_neg c13] at g ⊢
  by_cases c14 : x1 = 14
  · exact absurd c14 n14
  rw [if_neg c14] at g ⊢
  by_cases c15 : x1 = 15
  · rw [if_pos c15] at g ⊢; exact g
  rw [if_neg c15] at g ⊢
  by_cases c16 : x1 = 16
  · rw [if_pos c16] at g ⊢; exact g
  rw [if_neg c16] at g ⊢
  by_cases c17 : x1 = 17
  · rw [if_pos c17] at g ⊢
    intro _
    rcases s2' with e | e
    · rw [if_pos e]; rw [e] at g; exact g
    · rw [if_neg (by omega)]; rw [e] at g; exact g
  rw [if_neg c17] at g ⊢; exact g)
theorem j_70 [Inhabited fz_] (h : LKR M N) (hl : LDD M N) (hs : M 0 4 = 1 → SCT M N) (ht : M 0 6 = N 6 3) : SM2 1 70 [.inr (.inr 0), .inl x1] 2 377 [.inr (.inr 6), .inl x1] M N := by
  by_cases c4 : x1 < 4
  · by_cases cn : x1 < 0
    · refine ⟨-1, fun Qr Qt g => t_70 fun V hV hW => b_70_0 (Tr_mono _) hV hW _ _ ?_, fun Qr Qt g => t_377 fun V hV hW => b_377_0 (Tr_mono _) hV hW _ _ ?_⟩
      · rw [if_pos cn]; exact g
      · repeat rw [if_neg (by omega : ¬ x1 = _)]
        rw [if_pos cn]; exact g
    · rcases hl with ⟨a, b⟩ | ⟨⟨a, b⟩, hP, hw⟩
      · refine ⟨0, fun Qr Qt g => t_70 fun V hV hW => b_70_0 (Tr_mono _) hV hW _ _ ?_, fun Qr Qt g => t_377 fun V hV hW => b_377_0 (Tr_mono _) hV hW _ _ ?_⟩
        · rw [if_neg cn, if_pos (by omega), if_neg (by omega), if_pos c4, if_pos a]; exact fun _ => g
        · by_cases c0 : x1 = 0
          · rw [if_pos c0, if_pos b]; exact fun _ => g
          by_cases c1 : x1 = 1
          · rw [if_neg c0, if_pos c1, if_pos b]; exact fun _ => g
          by_cases c2 : x1 = 2
          · rw [if_neg c0, if_neg c1, if_pos c2, if_pos b]; exact fun _ => g
          rw [if_neg c0, if_neg c1, if_neg c2, if_pos (by omega), if_pos b]; exact fun _ => g
      · have p0 := hP.1
        rw [tbN_6 (by decide), tbN_6 (by decide), tbN_6 (by decide), swc_5] at p0
        refine ⟨if x1 = 0 then M 4 0 else if x1 = 1 then M 4 1 else if x1 = 2 then M 4 2 else M 4 36, fun Qr Qt g => t_70 fun V hV hW => b_70_0 (Tr_mono _) hV hW _ _ ?_, fun Qr Qt g => t_377 fun V hV hW => b_377_0 (Tr_mono _) hV hW _ _ ?_⟩
        · rw [if_neg cn, if_pos (by omega), if_neg (by omega), if_pos c4, if_neg (by omega)]
          intro _
          by_cases c0 : x1 = 0
          · rw [if_pos c0] at g ⊢; exact g
          rw [if_neg c0] at g ⊢
          by_cases c1 : x1 = 1
          · rw [if_pos c1] at g ⊢; exact g
          rw [if_neg c1] at g ⊢
          by_cases c2 : x1 = 2
          · rw [if_pos c2] at g ⊢; exact g
          rw [if_neg c2] at g ⊢; exact g
        · have nb : ¬ N 6 6 = 0 := by omega
          rw [← p0.1.1, ← p0.2.1.1, ← p0.2.2.1, ← hw]
          by_cases c0 : x1 = 0
          · rw [if_pos c0] at g ⊢; rw [if_neg nb]; exact fun _ => g
          rw [if_neg c0] at g ⊢
          by_cases c1 : x1 = 1
          · rw [if_pos c1] at g ⊢; rw [if_neg nb]; exact fun _ => g
          rw [if_neg c1] at g ⊢
          by_cases c2 : x1 = 2
          · rw [if_pos c2] at g ⊢; rw [if_neg nb]; exact fun _ => g
          rw [if_neg c2] at g ⊢
          rw [if_pos (by omega), if_neg nb]; exact fun _ => g
  · have e0 : ¬ x1 = 0 := by omega
    have e1 : ¬ x1 = 1 := by omega
    have e2 : ¬ x1 = 2 := by omega
    have e3 : ¬ x1 = 3 := by omega
    by_cases c14 : x1 = 14
    · refine ⟨M 0 6, fun Qr Qt g => t_70 fun V hV hW => b_70_0 (Tr_mono _) hV hW _ _ ?_, fun Qr Qt g => t_377 fun V hV hW => b_377_0 (Tr_mono _) hV hW _ _ ?_⟩
      · rw [if_neg (by omega), if_pos (by omega), if_pos c14]; exact g
      · rw [ht] at g
        repeat rw [if_neg (by omega : ¬ x1 = _)]
        rw [if_pos c14]; exact g
    · -- Q's cases are all alike
      have qa : ∀ (v : Int), (∀ (Qr : qr_) (Qt : qt_), Qr [.inl v] N → (if x1 < 0 then Qr [.inl (-1)] N else (if x1 ≤ 18 then (bl_ (N 6 126) → (if N 6 126 = 0 then Qr [.inl 0] N else Tr_ wd0 pg0 1 378 [.inr (.inr 6), .inl x1] N (ri_ fun v1 M1 => Qr [.inl v1] M1) Qt)) else Qr [.inl (-1)] N))) → Ex_ 2 377 [.inr (.inr 6), .inl x1] N [.inl v] N := fun v k Qr Qt g => t_377 fun V hV hW => b_377_0 (Tr_mono _) hV hW _ _ (by
        have kk := k Qr Qt g
        rw [if_neg e0, if_neg e1, if_neg e2, if_neg e3]
        by_cases c4 : x1 = 4
        · rw [if_pos c4]; exact kk
        rw [if_neg c4]
        by_cases c5 : x1 = 5
        · rw [if_pos c5]; exact kk
        rw [if_neg c5]
        by_cases c6 : x1 = 6
        · rw [if_pos c6]; exact kk
        rw [if_neg c6]
        by_cases c7 : x1 = 7
        · rw [if_pos c7]; exact kk
        rw [if_neg c7]
        by_cases c8 : x1 = 8
        · rw [if_pos c8]; exact kk
        rw [if_neg c8]
        by_cases c9 : x1 = 9
        · rw [if_pos c9]; exact kk
        rw [if_neg c9]
        by_cases c10 : x1 = 10
        · rw [if_pos c10]; exact kk
        rw [if_neg c10]
        by_cases c11 : x1 = 11
        · rw [if_pos c11]; exact kk
        rw [if_neg c11]
        by_cases c12 : x1 = 12
        · rw [if_pos c12]; exact kk
        rw [if_neg c12]
        by_cases c13 : x1 = 13
        · rw [if_pos c13]; exact kk
        rw [if_neg c13, if_neg c14]
        exact kk)
      by_cases c18 : x1 ≤ 18
      · rcases h with ⟨a, b⟩ | h
        · refine ⟨0, fun Qr Qt g => t_70 fun V hV hW => b_70_0 (Tr_mono _) hV hW _ _ ?_, qa 0 fun Qr Qt g => ?_⟩
          · rw [if_neg (by omega), if_pos c18, if_neg c14, if_neg c4, if_pos a]; exact fun _ => g
          · rw [if_neg (by omega), if_pos c18, if_pos b]; exact fun _ => g
        · have q8 := q_378 h (hs h.2.1) (x1 := x1) (by omega) c14
          refine ⟨_, fun Qr Qt g => t_70 fun V hV hW => b_70_0 (Tr_mono _) hV hW _ _ ?_, qa _ fun Qr Qt (g : Qr [.inl _] N) => by
            have := h.2.2
            rw [if_neg (by omega), if_pos c18, if_neg (by omega)]
            exact fun _ => q8 _ _ (ri_i g)⟩
          · have := h.2.1
            rw [if_neg (by omega), if_pos c18, if_neg c14, if_neg c4, if_neg (by omega)]
            intro _
            by_cases c4 : x1 = 4
            · rw [if_pos c4] at g ⊢; exact g
            rw [if_neg c4] at g ⊢
            by_cases c5 : x1 = 5
            · rw [if_pos c5] at g ⊢; exact g
            rw [if_neg c5] at g ⊢
            by_cases c6 : x1 = 6
            · rw [if_pos c6] at g ⊢; exact g
            rw [if_neg c6] at g ⊢
            by_cases c7 : x1 = 7
            · rw [if_pos c7] at g ⊢; exact g
            rw [if_neg c7] at g ⊢
            by_cases c8 : x1 = 8
            · rw [if_pos c8] at g ⊢; exact g
            rw [if_neg c8] at g ⊢
            by_cases c9 : x1 = 9
            · rw [if_pos c9] at g ⊢; exact g
            rw [if_neg c9] at g ⊢
            by_cases c10 : x1 = 10
            · rw [if_pos c10] at g ⊢; exact g
            rw [if_neg c10] at g ⊢
            by_cases c11 : x1 = 11
            · rw [if_pos c11] at g ⊢; exact g
            rw [if_neg c11] at g ⊢
            by_cases c12 : x1 = 12
            · rw [if_pos c12] at g ⊢; exact g
            rw [if_neg c12] at g ⊢
            by_cases c13 : x1 = 13
            · rw [if_pos c13] at g ⊢; exact g
            rw [if_neg c13] at g ⊢
            rw [if_neg c14] at g ⊢
            by_cases c15 : x1 = 15
            · rw [if_pos c15] at g ⊢; exact g
            rw [if_neg c15] at g ⊢
            by_cases c16 : x1 = 16
            · rw [if_pos c16] at g ⊢; exact g
            rw [if_neg c16] at g ⊢
            by_cases c17 : x1 = 17
            · rw [if_pos c17] at g ⊢; exact g
            rw [if_neg c17] at g ⊢; exact g
      · refine ⟨-1, fun Qr Qt g => t_70 fun V hV hW => b_70_0 (Tr_mono _) hV hW _ _ ?_, qa (-1) fun Qr Qt g => ?_⟩
        · rw [if_neg (by omega), if_neg c18]; exact g
        · rw [if_neg (by omega), if_neg c18]; exact g
end LPa
end T396_lk
section T397_pk
/-! the search: states packed -/
def rgl (g : Int → Int) : Int → Nat → List Int
  | _, 0 => []
  | i, n + 1 => g i :: rgl g (i + 1) n
def onb (f : Int → Int) (b : Int) : Int := (if 0 ≤ f (b + 22) then 1 else 0) + (if 0 ≤ f (b + 22 + 1) then 2 else 0) + (if 0 ≤ f (b + 22 + 2) then 4 else 0)
/-- an instance, packed -/
def slT (N : mm_) (f : Int → Int) (b : Int) : List Int := rgl (fun c => f (b + 6 + c)) 0 (N 172 (f (b + 1))).toNat ++ (f (b + 25) :: rgl (fun q => f (b + 26 + q)) 0 (5 * f (b + 25)).toNat)
def slL (N : mm_) (f : Int → Int) (b : Int) : List Int := f b :: f (b + 1) :: f (b + 2) :: f (b + 3) :: f (b + 4) :: f (b + 5) :: onb f b :: slT N f b
def slsL (N : mm_) (f : Int → Int) : Int → Nat → List Int
  | _, 0 => []
  | x, n + 1 => slL N f (sB x) ++ slsL N f (x + 1) n
/-- a route's row, packed -/
def enL (f : Int → Int) (b : Int) : Int → Nat → List Int
  | _, 0 => []
  | q, n + 1 => f (b + 1 + 7 * q + 0) :: f (b + 1 + 7 * q + 1) :: f (b + 1 + 7 * q + 2) :: f (b + 1 + 7 * q + 4) :: f (b + 1 + 7 * q + 5) :: f (b + 1 + 7 * q + 6) :: enL f b (q + 1) n
def roL (f : Int → Int) (b : Int) : List Int := f b :: enL f b 0 (f b).toNat
def rosL (f : Int → Int) : Int → Nat → List Int
  | _, 0 => []
  | r, n + 1 => roL f (sR r) ++ rosL f (r + 1) n
def pkL (N : mm_) (f : Int → Int) : List Int := f 0 :: f 1 :: (slsL N f 0 (f 0).toNat ++ rosL f 0 (N 6 18).toNat)
/-- a row of a timeless run -/
def VSL (N : mm_) (f : Int → Int) (b : Int) : Prop := ((1 ≤ f b ∧ f b < f 1) ∧ (0 ≤ f (b + 1) ∧ f (b + 1) < N 6 19) ∧ (-1 ≤ f (b + 2) ∧ f (b + 2) < N 174 (f (b + 1))))
  ∧ (∀ i, N 172 (f (b + 1)) ≤ i → 0 ≤ i → i < 16 → f (b + 6 + i) = 0)
  ∧ (∀ t, 0 ≤ t → t < 3 → (f (b + 22 + t) = 0 ∨ f (b + 22 + t) = -1) ∧ (N 173 (f (b + 1)) ≤ t → f (b + 22 + t) = -1))
  ∧ ((0 ≤ f (b + 25) ∧ f (b + 25) ≤ 6) ∧ ∀ i, 5 * f (b + 25) ≤ i → i < 30 → f (b + 26 + i) = 0)
def VRO (f : Int → Int) (b : Int) : Prop := (0 ≤ f b ∧ f b ≤ 6) ∧ (∀ q, 0 ≤ q → q < f b → f (b + 1 + 7 * q + 3) = 0) ∧ ∀ i, 7 * f b ≤ i → i < 42 → f (b + 1 + i) = 0
def VR (N : mm_) (f : Int → Int) : Prop := ((0 ≤ f 0 ∧ f 0 ≤ 12) ∧ 1 ≤ f 1) ∧ (∀ k, 0 ≤ k → k < f 0 → VSL N f (sB k)) ∧ (∀ k, f 0 ≤ k → k < 12 → ∀ i, 0 ≤ i → i < 56 → f (sB k + i) = 0) ∧ (∀ r, 0 ≤ r → r < N 6 18 → VRO f (sR r)) ∧ ∀ r, N 6 18 ≤ r → r < 10 → ∀ i, 0 ≤ i → i < 43 → f (sR r + i) = 0
/-- the plan's bounds that packing needs -/
def PKB (N : mm_) : Prop := (0 ≤ N 6 18 ∧ N 6 18 ≤ 10) ∧ (0 ≤ N 6 19 ∧ N 6 19 ≤ 6) ∧ ∀ T, 0 ≤ T → T < N 6 19 → 0 ≤ N 172 T ∧ N 172 T ≤ 16
section PKa
variable {N : mm_} {f g : Int → Int} {i b x r : Int} {n m : Nat}
theorem rgl_len [Inhabited fz_] : ∀ (n : Nat) (i : Int), (rgl g i n).length = n
  | 0, _ => rfl
  | n + 1, i => by unfold rgl; rw [List.length_cons, rgl_len n]
theorem rgl_inj [Inhabited fz_] : ∀ (n : Nat) (i : Int), rgl f i n = rgl g i n → ∀ j, i ≤ j → j < i + n → f j = g j
  | 0, i, _, j, h0, h1 => by omega
  | n + 1, i, h, j, h0, h1 => by
    unfold rgl at h
    injection h with h1' h2'
    by_cases c : j = i
    · rw [c]; exact h1'
    · exact rgl_inj n (i + 1) h2' j (by omega) (by omega)
theorem rgl_cg [Inhabited fz_] : ∀ (n : Nat) (i : Int), (∀ j, i ≤ j → j < i + n → f j = g j) → rgl f i n = rgl g i n
  | 0, _, _ => rfl
  | n + 1, i, h => by unfold rgl; rw [h i (Int.le_refl _) (by omega), rgl_cg n (i + 1) (fun j a b => h j (by omega) (by omega))]
theorem onb_inj [Inhabited fz_] (hf : ∀ t, 0 ≤ t → t < 3 → f (b + 22 + t) = 0 ∨ f (b + 22 + t) = -1) (hg : ∀ t, 0 ≤ t → t < 3 → g (b + 22 + t) = 0 ∨ g (b + 22 + t) = -1) (h : onb f b = onb g b) : ∀ t, 0 ≤ t → t < 3 → f (b + 22 + t) = g (b + 22 + t) := by
  have f0 := hf 0 (by decide) (by decide)
  have f1 := hf 1 (by decide) (by decide)
  have f2 := hf 2 (by decide) (by decide)
  have g0 := hg 0 (by decide) (by decide)
  have g1 := hg 1 (by decide) (by decide)
  have g2 := hg 2 (by decide) (by decide)
  unfold onb at h
  rw [Int.add_zero] at f0 g0
  intro t t0 t1
  rcases (by omega : t = 0 ∨ t = 1 ∨ t = 2) with e | e | e
  · subst e; rw [Int.add_zero]; split at h <;> split at h <;> split at h <;> split at h <;> split at h <;> split at h <;> omega
  · subst e; split at h <;> split at h <;> split at h <;> split at h <;> split at h <;> split at h <;> omega
  · subst e; split at h <;> split at h <;> split at h <;> split at h <;> split at h <;> split at h <;> omega
/-- an instance is told by its packing -/
theorem slL_inj [Inhabited fz_] {s t : List Int} (hf : VSL N f b) (hg : VSL N g b) (h : slL N f b ++ s = slL N g b ++ t) : (∀ i, 0 ≤ i → i < 56 → f (b + i) = g (b + i)) ∧ s = t := by
  unfold slL at h
  simp only [List.cons_append, List.cons.injEq] at h
  obtain ⟨a0, a1, a2, a3, a4, a5, a6, h⟩ := h
  unfold slT at h
  rw [← a1, List.append_assoc, List.append_assoc] at h
  obtain ⟨c1, h⟩ := List.append_inj h (by rw [rgl_len, rgl_len])
  simp only [List.cons_append, List.cons.injEq] at h
  obtain ⟨q1, h⟩ := h
  rw [← q1] at h
  obtain ⟨c2, h⟩ := List.append_inj h (by rw [rgl_len, rgl_len])
  refine ⟨fun i i0 i1 => ?_, h⟩
  have cc := rgl_inj _ _ c1
  have qq := rgl_inj _ _ c2
  have vf := hf.2.1
  have vg := hg.2.1
  rw [← a1] at vg
  have tf := hf.2.2.1
  have tg := hg.2.2.1
  have tt := onb_inj (fun t a b => (tf t a b).1) (fun t a b => (tg t a b).1) a6
  have uf := hf.2.2.2
  have ug := hg.2.2.2
  rw [← q1] at ug
  rcases (by omega : i = 0 ∨ i = 1 ∨ i = 2 ∨ i = 3 ∨ i = 4 ∨ i = 5 ∨ (6 ≤ i ∧ i < 22) ∨ (22 ≤ i ∧ i < 25) ∨ i = 25 ∨ (26 ≤ i ∧ i < 56)) with e | e | e | e | e | e | e | e | e | e
  · rw [e, Int.add_zero]; exact a0
  · rw [e]; exact a1
  · rw [e]; exact a2
  · rw [e]; exact a3
  · rw [e]; exact a4
  · rw [e]; exact a5
  · rw [show b + i = b + 6 + (i - 6) by omega]
    by_cases c : i - 6 < N 172 (f (b + 1))
    · exact cc (i - 6) (by omega) (by omega)
    · rw [vf (i - 6) (by omega) (by omega) (by omega), vg (i - 6) (by omega) (by omega) (by omega)]
  · rw [show b + i = b + 22 + (i - 22) by omega]; exact tt (i - 22) (by omega) (by omega)
  · rw [e]; exact q1
  · rw [show b + i = b + 26 + (i - 26) by omega]
    by_cases c : i - 26 < 5 * f (b + 25)
    · exact qq (i - 26) (by omega) (by omega)
    · rw [uf.2 (i - 26) (by omega) (by omega), ug.2 (i - 26) (by omega) (by omega)]
theorem slsL_inj [Inhabited fz_] {s t : List Int} : ∀ (n : Nat) (x : Int), (∀ k, x ≤ k → k < x + n → VSL N f (sB k) ∧ VSL N g (sB k)) → slsL N f x n ++ s = slsL N g x n ++ t → (∀ k, x ≤ k → k < x + n → ∀ i, 0 ≤ i → i < 56 → f (sB k + i) = g (sB k + i)) ∧ s = t
  | 0, x, _, h => ⟨fun k a b => by omega, h⟩
  | n + 1, x, hv, h => by
    unfold slsL at h
    rw [List.append_assoc, List.append_assoc] at h
    obtain ⟨a, h⟩ := slL_inj (hv x (Int.le_refl _) (by omega)).1 (hv x (Int.le_refl _) (by omega)).2 h
    obtain ⟨b, h⟩ := slsL_inj n (x + 1) (fun k a b => hv k (by omega) (by omega)) h
    refine ⟨fun k k0 k1 => ?_, h⟩
    by_cases c : k = x
    · rw [c]; exact a
    · exact b k (by omega) (by omega)
theorem enL_inj [Inhabited fz_] {s t : List Int} : ∀ (n : Nat) (q : Int), enL f b q n ++ s = enL g b q n ++ t → (∀ j, q ≤ j → j < q + n → ∀ i, 0 ≤ i → i < 7 → i ≠ 3 → f (b + 1 + 7 * j + i) = g (b + 1 + 7 * j + i)) ∧ s = t
  | 0, q, h => ⟨fun k a b => by omega, h⟩
  | n + 1, q, h => by
    unfold enL at h
    simp only [List.cons_append, List.cons.injEq] at h
    obtain ⟨a0, a1, a2, a4, a5, a6, h⟩ := h
    obtain ⟨p, h⟩ := enL_inj n (q + 1) h
    refine ⟨fun j j0 j1 i i0 i1 i3 => ?_, h⟩
    by_cases c : j = q
    · rw [c]
      rcases (by omega : i = 0 ∨ i = 1 ∨ i = 2 ∨ i = 4 ∨ i = 5 ∨ i = 6) with e | e | e | e | e | e <;> (rw [e]; assumption)
    · exact p j (by omega) (by omega) i i0 i1 i3
theorem roL_inj [Inhabited fz_] {s t : List Int} (hf : VRO f b) (hg : VRO g b) (h : roL f b ++ s = roL g b ++ t) : (∀ i, 0 ≤ i → i < 43 → f (b + i) = g (b + i)) ∧ s = t := by
  unfold roL at h
  simp only [List.cons_append, List.cons.injEq] at h
  obtain ⟨a0, h⟩ := h
  rw [← a0] at h
  obtain ⟨p, h⟩ := enL_inj _ _ h
  refine ⟨fun i i0 i1 => ?_, h⟩
  obtain ⟨f1, f2, f3⟩ := hf
  obtain ⟨g1, g2, g3⟩ := hg
  rw [← a0] at g2 g3
  by_cases c : i = 0
  · rw [c, Int.add_zero]; exact a0
  · by_cases c2 : i - 1 < 7 * f b
    · have e : b + i = b + 1 + 7 * ((i - 1) / 7) + (i - 1) % 7 := by omega
      rw [e]
      by_cases c3 : (i - 1) % 7 = 3
      · rw [c3, f2 _ (by omega) (by omega), g2 _ (by omega) (by omega)]
      · exact p ((i - 1) / 7) (by omega) (by omega) _ (by omega) (by omega) c3
    · rw [show b + i = b + 1 + (i - 1) by omega, f3 _ (by omega) (by omega), g3 _ (by omega) (by omega)]
theorem rosL_inj [Inhabited fz_] : ∀ (n : Nat) (x : Int), (∀ k, x ≤ k → k < x + n → VRO f (sR k) ∧ VRO g (sR k)) → rosL f x n = rosL g x n → ∀ k, x ≤ k → k < x + n → ∀ i, 0 ≤ i → i < 43 → f (sR k + i) = g (sR k + i)
  | 0, x, _, h => fun k a b => by omega
  | n + 1, x, hv, h => by
    unfold rosL at h
    obtain ⟨a, h⟩ := roL_inj (hv x (Int.le_refl _) (by omega)).1 (hv x (Int.le_refl _) (by omega)).2 h
    have b := rosL_inj n (x + 1) (fun k a b => hv k (by omega) (by omega)) h
    intro k k0 k1
    by_cases c : k = x
    · rw [c]; exact a
    · exact b k (by omega) (by omega)
/-- a state is told by its packing -/
theorem pkL_inj [Inhabited fz_] (hN : 0 ≤ N 6 18 ∧ N 6 18 ≤ 10) (hf : VR N f) (hg : VR N g) (h : pkL N f = pkL N g) : ∀ i, 0 ≤ i → i < 1104 → f i = g i := by
  unfold pkL at h
  injection h with a0 h
  injection h with a1 h
  obtain ⟨⟨f1, f1'⟩, f2, f3, f4, f5⟩ := hf
  obtain ⟨⟨g1, g1'⟩, g2, g3, g4, g5⟩ := hg
  rw [← a0] at g1 g2 g3 h
  obtain ⟨b, h⟩ := slsL_inj _ _ (fun k k0 k1 => ⟨f2 k k0 (by omega), g2 k k0 (by omega)⟩) h
  have c := rosL_inj _ _ (fun k k0 k1 => ⟨f4 k k0 (by omega), g4 k k0 (by omega)⟩) h
  intro i i0 i1
  rcases (by omega : i = 0 ∨ i = 1 ∨ (2 ≤ i ∧ i < 674) ∨ (674 ≤ i ∧ i < 1104)) with e | e | e | e
  · rw [e]; exact a0
  · rw [e]; exact a1
  · have ei : i = sB ((i - 2) / 56) + (i - 2) % 56 := by unfold sB; omega
    rw [ei]
    by_cases c1 : (i - 2) / 56 < f 0
    · exact b _ (by omega) (by omega) _ (by omega) (by omega)
    · rw [f3 _ (by omega) (by omega) _ (by omega) (by omega), g3 _ (by omega) (by omega) _ (by omega) (by omega)]
  · have ei : i = sR ((i - 674) / 43) + (i - 674) % 43 := by unfold sR; omega
    rw [ei]
    by_cases c1 : (i - 674) / 43 < N 6 18
    · exact c _ (by omega) (by omega) _ (by omega) (by omega)
    · rw [f5 _ (by omega) (by omega) _ (by omega) (by omega), g5 _ (by omega) (by omega) _ (by omega) (by omega)]
/-- how long it is -/
theorem slL_len [Inhabited fz_] (hT : N 172 (f (b + 1)) ≤ 16) (hq : f (b + 25) ≤ 6) : (slL N f b).length ≤ 54 := by
  unfold slL slT
  simp only [List.length_cons, List.length_append, rgl_len]
  omega
theorem slsL_len [Inhabited fz_] : ∀ (n : Nat) (x : Int), (∀ k, x ≤ k → k < x + n → N 172 (f (sB k + 1)) ≤ 16 ∧ f (sB k + 25) ≤ 6) → (slsL N f x n).length ≤ 54 * n
  | 0, x, _ => by unfold slsL; exact Nat.le_refl _
  | n + 1, x, h => by
    unfold slsL
    rw [List.length_append]
    have a := slL_len (N := N) (f := f) (b := sB x) (h x (Int.le_refl _) (by omega)).1 (h x (Int.le_refl _) (by omega)).2
    have b := slsL_len n (x + 1) (fun k k0 k1 => h k (by omega) (by omega))
    omega
theorem enL_len [Inhabited fz_] : ∀ (n : Nat) (q : Int), (enL f b q n).length = 6 * n
  | 0, _ => rfl
  | n + 1, q => by unfold enL; simp only [List.length_cons, enL_len n]; omega
theorem rosL_len [Inhabited fz_] : ∀ (n : Nat) (x : Int), (∀ k, x ≤ k → k < x + n → f (sR k) ≤ 6) → (rosL f x n).length ≤ 37 * n
  | 0, x, _ => by unfold rosL; exact Nat.le_refl _
  | n + 1, x, h => by
    unfold rosL roL
    rw [List.length_append, List.length_cons, enL_len]
    have a := h x (Int.le_refl _) (by omega)
    have b := rosL_len n (x + 1) (fun k k0 k1 => h k (by omega) (by omega))
    omega
theorem pkL_len [Inhabited fz_] (hN : PKB N) (hf : VR N f) : (pkL N f).length ≤ 1020 := by
  unfold pkL
  rw [List.length_cons, List.length_cons, List.length_append]
  obtain ⟨⟨f1, f1'⟩, f2, f3, f4, f5⟩ := hf
  have a := slsL_len (N := N) (f := f) (f 0).toNat 0 (fun k k0 k1 => by
    have v := f2 k k0 (by omega)
    exact ⟨(hN.2.2 _ v.1.2.1.1 v.1.2.1.2).2, v.2.2.2.1.2⟩)
  have b := rosL_len (f := f) (N 6 18).toNat 0 (fun k k0 k1 => (f4 k k0 (by omega)).1.2)
  have := hN.1
  omega
/-- only the row matters -/
theorem VSL_c [Inhabited fz_] (h : VSL N f b) (e1 : f 1 = g 1) (e : ∀ i, 0 ≤ i → i < 56 → f (b + i) = g (b + i)) : VSL N g b := by
  have e0 := e 0 (by decide) (by decide)
  rw [Int.add_zero] at e0
  unfold VSL at h ⊢
  rw [← e1, ← e0, ← e 1 (by decide) (by decide), ← e 2 (by decide) (by decide), ← e 25 (by decide) (by decide)]
  refine ⟨h.1, fun i i0 i1 i2 => ?_, fun t t0 t1 => ?_, h.2.2.2.1, fun i i0 i1 => ?_⟩
  · have := e (6 + i) (by omega) (by omega)
    rw [show b + (6 + i) = b + 6 + i by omega] at this
    rw [← this]; exact h.2.1 i i0 i1 i2
  · have := e (22 + t) (by omega) (by omega)
    rw [show b + (22 + t) = b + 22 + t by omega] at this
    rw [← this]; exact h.2.2.1 t t0 t1
  · have := e (26 + i) (by have := h.2.2.2.1; omega) (by omega)
    rw [show b + (26 + i) = b + 26 + i by omega] at this
    rw [← this]; exact h.2.2.2.2 i i0 i1
theorem VRO_c [Inhabited fz_] (h : VRO f b) (e : ∀ i, 0 ≤ i → i < 43 → f (b + i) = g (b + i)) : VRO g b := by
  have e0 := e 0 (by decide) (by decide)
  rw [Int.add_zero] at e0
  unfold VRO at h ⊢
  rw [← e0]
  refine ⟨h.1, fun q q0 q1 => ?_, fun i i0 i1 => ?_⟩
  · have := e (1 + 7 * q + 3) (by omega) (by have := h.1; omega)
    rw [show b + (1 + 7 * q + 3) = b + 1 + 7 * q + 3 by omega] at this
    rw [← this]; exact h.2.1 q q0 q1
  · have := e (1 + i) (by have := h.1; omega) (by omega)
    rw [show b + (1 + i) = b + 1 + i by omega] at this
    rw [← this]; exact h.2.2 i i0 i1
theorem VR_c [Inhabited fz_] (hN : 0 ≤ N 6 18 ∧ N 6 18 ≤ 10) (h : VR N f) (e : ∀ i, 0 ≤ i → i < 1104 → f i = g i) : VR N g := by
  obtain ⟨h1, h2, h3, h4, h5⟩ := h
  have e0 := e 0 (by decide) (by decide)
  have e1 := e 1 (by decide) (by decide)
  refine ⟨by rw [← e0, ← e1]; exact h1, fun k k0 k1 => VSL_c (h2 k k0 (by rw [e0]; exact k1)) e1 (fun i i0 i1 => e _ (by unfold sB; omega) (by unfold sB; omega)), fun k k0 k1 i i0 i1 => ?_, fun r r0 r1 => VRO_c (h4 r r0 r1) (fun i i0 i1 => e _ (by unfold sR; omega) (by unfold sR; omega)), fun r r0 r1 i i0 i1 => ?_⟩
  · rw [← e _ (by unfold sB; omega) (by unfold sB; omega)]; exact h3 k (by rw [e0]; exact k0) k1 i i0 i1
  · rw [← e _ (by unfold sR; omega) (by unfold sR; omega)]; exact h5 r r0 r1 i i0 i1
theorem slL_cg [Inhabited fz_] (e : ∀ i, 0 ≤ i → i < 56 → f (b + i) = g (b + i)) (hT : N 172 (f (b + 1)) ≤ 16) (hq : f (b + 25) ≤ 6) : slL N f b = slL N g b := by
  have e0 := e 0 (by decide) (by decide)
  rw [Int.add_zero] at e0
  unfold slL slT onb
  rw [e0, e 1 (by decide) (by decide), e 2 (by decide) (by decide), e 3 (by decide) (by decide), e 4 (by decide) (by decide), e 5 (by decide) (by decide), e 25 (by decide) (by decide), e 22 (by decide) (by decide), show b + 22 + 1 = b + 23 by omega, show b + 22 + 2 = b + 24 by omega, e 23 (by decide) (by decide), e 24 (by decide) (by decide)]
  rw [e 1 (by decide) (by decide)] at hT
  rw [e 25 (by decide) (by decide)] at hq
  rw [rgl_cg (f := fun c => f (b + 6 + c)) (g := fun c => g (b + 6 + c)) _ _ (fun j j0 j1 => by
    have := e (6 + j) (by omega) (by omega)
    rw [show b + (6 + j) = b + 6 + j by omega] at this; exact this), rgl_cg (f := fun q => f (b + 26 + q)) (g := fun q => g (b + 26 + q)) _ _ (fun j j0 j1 => by
    have := e (26 + j) (by omega) (by omega)
    rw [show b + (26 + j) = b + 26 + j by omega] at this; exact this)]
theorem slsL_cg [Inhabited fz_] : ∀ (n : Nat) (x : Int), (∀ k, x ≤ k → k < x + n → (∀ i, 0 ≤ i → i < 56 → f (sB k + i) = g (sB k + i)) ∧ N 172 (f (sB k + 1)) ≤ 16 ∧ f (sB k + 25) ≤ 6) → slsL N f x n = slsL N g x n
  | 0, _, _ => rfl
  | n + 1, x, h => by
    unfold slsL
    have a := h x (Int.le_refl _) (by omega)
    rw [slL_cg a.1 a.2.1 a.2.2, slsL_cg n (x + 1) (fun k k0 k1 => h k (by omega) (by omega))]
theorem enL_cg [Inhabited fz_] : ∀ (n : Nat) (q : Int), (∀ j, q ≤ j → j < q + n → ∀ i, 0 ≤ i → i < 7 → f (b + 1 + 7 * j + i) = g (b + 1 + 7 * j + i)) → enL f b q n = enL g b q n
  | 0, _, _ => rfl
  | n + 1, q, h => by
    unfold enL
    have a := h q (Int.le_refl _) (by omega)
    rw [a 0 (by decide) (by decide), a 1 (by decide) (by decide), a 2 (by decide) (by decide), a 4 (by decide) (by decide), a 5 (by decide) (by decide), a 6 (by decide) (by decide), enL_cg n (q + 1) (fun j j0 j1 => h j (by omega) (by omega))]
theorem rosL_cg [Inhabited fz_] : ∀ (n : Nat) (x : Int), (∀ k, x ≤ k → k < x + n → (∀ i, 0 ≤ i → i < 43 → f (sR k + i) = g (sR k + i)) ∧ f (sR k) ≤ 6) → rosL f x n = rosL g x n
  | 0, _, _ => rfl
  | n + 1, x, h => by
    unfold rosL roL
    obtain ⟨a, a6⟩ := h x (Int.le_refl _) (by omega)
    have a0 := a 0 (by decide) (by decide)
    rw [Int.add_zero] at a0
    rw [rosL_cg n (x + 1) (fun k k0 k1 => h k (by omega) (by omega)), a0]
    rw [a0] at a6
    rw [enL_cg (f := f) (g := g) _ _ (fun j j0 j1 i i0 i1 => by
      have := a (1 + 7 * j + i) (by omega) (by omega)
      rw [show sR x + (1 + 7 * j + i) = sR x + 1 + 7 * j + i by omega] at this; exact this)]
theorem pkL_cg [Inhabited fz_] (hN : PKB N) (hf : VR N f) (e : ∀ i, 0 ≤ i → i < 1104 → f i = g i) : pkL N f = pkL N g := by
  obtain ⟨⟨f1, f1'⟩, f2, f3, f4, f5⟩ := hf
  have h18 := hN.1
  unfold pkL
  rw [← e 0 (by decide) (by decide), ← e 1 (by decide) (by decide), slsL_cg (f := f) (g := g) (f 0).toNat 0 (fun k k0 k1 => ⟨fun i i0 i1 => e _ (by unfold sB; omega) (by unfold sB; omega), by
    have v := f2 k k0 (by omega)
    exact ⟨(hN.2.2 _ v.1.2.1.1 v.1.2.1.2).2, v.2.2.2.1.2⟩⟩), rosL_cg (f := f) (g := g) (N 6 18).toNat 0 (fun k k0 k1 => ⟨fun i i0 i1 => e _ (by unfold sR; omega) (by unfold sR; omega), (f4 k k0 (by omega)).1.2⟩)]
end PKa
end T397_pk

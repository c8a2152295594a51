section T409_it
/-! the search: one move more (X 37 at 188 | Q 385, the move, 387) -/
def p37 (M : mm_) (a b : Int) : mm_ := up_ (up_ M 0 37 a) 0 38 b
def q37 (N : mm_) (a b : Int) : mm_ := up_ (up_ N 6 138 a) 6 139 b
/-- a run of X that Q's memory fits, apart from what is unpacked -/
def RVX [Inhabited fz_] (M N : mm_) : Prop := ∃ Mv, RU 1 Mv N ∧ (∀ r : Nat, r ∉ [0, 10, 11, 12, 13, 14, 15, 16, 17, 18, 19, 20, 21, 22] → Mv r = M r) ∧ ∀ i : Int, i ∉ [7, 8, 37, 38, 65] → Mv 0 i = M 0 i
def ITV [Inhabited fz_] (x1 n B x3 x4 x5 : Int) (M N : mm_) : Prop := (RVX M N ∧ PLr M N ∧ TYA N) ∧ (SST M N n B ∧ BKT M n) ∧ (n ≤ x1 ∧ N 6 165 = x1) ∧ (N 6 166 = x3 ∧ N 6 167 = x4 ∧ N 6 168 = x5) ∧ M 0 64 = N 6 164
section ITa
variable {z : Int} {M N M' N' M1 N1 Mv : mm_} {f : Int → Int} {a b k n B x1 x3 x4 x5 : Int}
theorem RVX_of [Inhabited fz_] (h : RU 1 M N) : RVX M N := ⟨M, h, fun _ _ => rfl, fun _ _ => rfl⟩
theorem ITV_of [Inhabited fz_] (h : ITR x1 n B x3 x4 x5 M N) : ITV x1 n B x3 x4 x5 M N := ⟨⟨RVX_of h.1.1, h.1.2⟩, h.2⟩
theorem p37_r [Inhabited fz_] {r : Nat} (h : r ≠ 0) : p37 M a b r = M r := by unfold p37; rw [up_ne h, up_ne h]
theorem p37_0 [Inhabited fz_] {i : Int} (h : i ≠ 37) (h' : i ≠ 38) : p37 M a b 0 i = M 0 i := by unfold p37; rw [upo h', upo h]
theorem p37_v [Inhabited fz_] : p37 M a b 0 37 = a ∧ p37 M a b 0 38 = b := by unfold p37; exact ⟨by rw [upo (by decide), up_at], by rw [up_at]⟩
theorem q37_r [Inhabited fz_] {r : Nat} (h : r ≠ 6) : q37 N a b r = N r := by unfold q37; rw [up_ne h, up_ne h]
theorem q37_0 [Inhabited fz_] {i : Int} (h : i ≠ 138) (h' : i ≠ 139) : q37 N a b 6 i = N 6 i := by unfold q37; rw [upo h', upo h]
theorem q37_v [Inhabited fz_] : q37 N a b 6 138 = a ∧ q37 N a b 6 139 = b := by unfold q37; exact ⟨by rw [upo (by decide), up_at], by rw [up_at]⟩
theorem p37_s [Inhabited fz_] : p37 M (M 0 37) (M 0 38) = M := by
  funext r
  by_cases c : r = 0
  · subst c; funext i
    by_cases c1 : i = 37
    · rw [c1]; exact p37_v.1
    · by_cases c2 : i = 38
      · rw [c2]; exact p37_v.2
      · exact p37_0 c1 c2
  · exact p37_r c
theorem RU_37 [Inhabited fz_] (h : RU z M N) : RU z (p37 M a b) (q37 N a b) := by
  obtain ⟨h1, h2, h3, h4, h5⟩ := h
  have xr : ∀ r : Nat, r ≠ 0 → p37 M a b r = M r := fun r c => p37_r c
  have x0 : ∀ i : Int, i ≠ 37 → i ≠ 38 → p37 M a b 0 i = M 0 i := fun i c c' => p37_0 c c'
  have qr : ∀ r : Nat, r ≠ 6 → q37 N a b r = N r := fun r c => q37_r c
  have q0 : ∀ i : Int, i ≠ 138 → i ≠ 139 → q37 N a b 6 i = N 6 i := fun i c c' => q37_0 c c'
  obtain ⟨v37, v38⟩ := p37_v (M := M) (a := a) (b := b)
  obtain ⟨v138, v139⟩ := q37_v (N := N) (a := a) (b := b)
  refine ⟨RI_c h1 ⟨x0 7 (by decide) (by decide), x0 8 (by decide) (by decide)⟩ (fun r hr => xr r (fun c => by rw [c] at hr; revert hr; decide)) (qr 239 (by decide)) (q0 19 (by decide) (by decide)) (fun r hr => qr r (fun c => by rw [c] at hr; revert hr; decide)), RRt_c h2 (xr 21 (by decide)) (xr 22 (by decide)) (qr 239 (by decide)) (q0 18 (by decide) (by decide)), ?_, ROU_c h4 (fun i hi => x0 i (fun c => by rw [c] at hi; revert hi; decide) (fun c => by rw [c] at hi; revert hi; decide)) (xr 24 (by decide)) (fun i hi => q0 i (fun c => by rw [c] at hi; revert hi; decide) (fun c => by rw [c] at hi; revert hi; decide)) (qr 241 (by decide)), REV_c h5 (fun i hi => x0 i (fun c => by rw [c] at hi; revert hi; decide) (fun c => by rw [c] at hi; revert hi; decide)) (xr 23 (by decide)) (fun i hi => q0 i (fun c => by rw [c] at hi; revert hi; decide) (fun c => by rw [c] at hi; revert hi; decide)) (qr 240 (by decide))⟩
  unfold RSC at h3 ⊢
  rw [x0 9 (by decide) (by decide), x0 10 (by decide) (by decide), x0 25 (by decide) (by decide), x0 26 (by decide) (by decide), x0 27 (by decide) (by decide), x0 28 (by decide) (by decide), x0 29 (by decide) (by decide), x0 30 (by decide) (by decide), x0 31 (by decide) (by decide), q0 127 (by decide) (by decide), q0 128 (by decide) (by decide), q0 129 (by decide) (by decide), q0 131 (by decide) (by decide), q0 132 (by decide) (by decide), q0 133 (by decide) (by decide), q0 134 (by decide) (by decide), q0 135 (by decide) (by decide), q0 136 (by decide) (by decide), v37, v38, v138, v139]
  exact ⟨h3.1, h3.2.1, h3.2.2.1, h3.2.2.2.1, fun _ => ⟨rfl, rfl⟩⟩
theorem q37_wr [Inhabited fz_] {g : Int → Int} : wr_ (q37 N a b) 239 g = q37 (wr_ N 239 g) a b := by
  funext r
  by_cases c : r = 239
  · subst c; rw [wr_same, q37_r (by decide), wr_same]
  · by_cases c2 : r = 6
    · subst c2
      rw [wr_ne (by decide)]; funext i
      by_cases c3 : i = 138
      · rw [c3, q37_v.1, q37_v.1]
      · by_cases c4 : i = 139
        · rw [c4, q37_v.2, q37_v.2]
        · rw [q37_0 c3 c4, q37_0 c3 c4, wr_ne (by decide)]
    · rw [wr_ne c, q37_r c2, q37_r c2, wr_ne c]
theorem RU_unv [Inhabited fz_] (h : RVX M N) (hv : VR N f) (hu : UF M M') (h7 : M' 0 7 = f 0) (h8 : M' 0 8 = f 1) (hS : ∀ j, 0 ≤ j → j < f 0 → SLD M' f j) (hR : ∀ j, 0 ≤ j → j < N 6 18 → ROD M' f j) : RU 1 (p37 M' a b) (q37 (wr_ N 239 (ldF (N 239) f)) a b) := by
  obtain ⟨Mv, hr, v1, v2⟩ := h
  have e239 : q37 N a b 239 = N 239 := q37_r (by decide)
  rw [← q37_wr, ← e239]
  have r9 : ∀ i : Int, i ≠ 37 → i ≠ 38 → p37 M' a b 0 i = M' 0 i := fun i c c' => p37_0 c c'
  refine RU_un (RU_37 hr) (VR_t hv (q37_0 (by decide) (by decide)) (q37_0 (by decide) (by decide)) (fun r hr => q37_r (fun c => by rw [c] at hr; revert hr; decide))) ⟨fun r hr => ?_, fun i hi => ?_⟩ (by rw [r9 7 (by decide) (by decide)]; exact h7) (by rw [r9 8 (by decide) (by decide)]; exact h8) (fun j j0 j1 => ?_) (fun j j0 j1 => ?_)
  · have r0 : r ≠ 0 := fun c => hr (by rw [c]; decide)
    rw [p37_r r0, p37_r r0, hu.1 r hr, v1 r hr]
  · by_cases c : i = 37
    · rw [c, p37_v.1, p37_v.1]
    · by_cases c2 : i = 38
      · rw [c2, p37_v.2, p37_v.2]
      · rw [p37_0 c c2, p37_0 c c2, hu.2 i hi, v2 i (fun e => by revert e hi; simp only [List.mem_cons, List.not_mem_nil, or_false]; omega)]
  · have := hS j j0 j1
    unfold SLD at this ⊢
    rw [p37_r (r := 10) (by decide), p37_r (r := 11) (by decide), p37_r (r := 12) (by decide), p37_r (r := 13) (by decide), p37_r (r := 14) (by decide), p37_r (r := 15) (by decide), p37_r (r := 16) (by decide), p37_r (r := 17) (by decide), p37_r (r := 18) (by decide), p37_r (r := 19) (by decide), p37_r (r := 20) (by decide), r9 9 (by decide) (by decide)]
    exact this
  · rw [q37_0 (by decide) (by decide)] at j1
    have := hR j j0 j1
    unfold ROD at this ⊢
    rw [p37_r (r := 21) (by decide), p37_r (r := 22) (by decide), r9 9 (by decide) (by decide)]
    exact this
theorem trQ_e [Inhabited fz_] : trQ N k = q37 (wr_ N 239 (ldF (N 239) (rwk N k))) 0 0 := rfl
/-- trying -/
theorem j_trv [Inhabited fz_] (h : RVX M N) (hP : PLr M N) (hA : TYA N) (hS : SST M N n B) (hk : 0 ≤ k ∧ k < n) : ∃ M1, Ex_ 2 41 [.inr (.inr 0), .inl k] M [] M1 ∧ UF M M1 ∧ (∀ a b, RU 1 (p37 M1 a b) (q37 (wr_ N 239 (ldF (N 239) (rwk N k))) a b)) ∧ (∀ a b, TYA (q37 (wr_ N 239 (ldF (N 239) (rwk N k))) a b)) ∧ M1 0 8 ≤ B + 200 * k ∧ M1 0 7 = rwk N k 0 := by
  obtain ⟨⟨a1, a2, a3, a4, a5⟩, _⟩ := hS.2.2 k hk.1 hk.2
  have n2 := hS.2.1
  obtain ⟨M1, x1, u, ⟨h7, h8⟩, s1, s2⟩ := x_41 hP a1 (k := k) (by omega) a4.1
  refine ⟨M1, x1, u, fun a b => RU_unv h a1 u h7 h8 s1 s2, fun a b => ?_, by omega, h7⟩
  refine TYA_c (TYA_un hA a2 a1.1.1) ⟨fun r hr => q37_r (fun c => by rw [c] at hr; revert hr; decide), q37_0 (by decide) (by decide), q37_0 (by decide) (by decide)⟩ (q37_r (by decide))
theorem XSF_p37 [Inhabited fz_] : XSF M (p37 M a b) := by unfold p37; exact XSF_tr (XSF_up (.inr (by decide)) (fun _ => by decide)) (XSF_up (.inr (by decide)) (fun _ => by decide))
theorem QSF_q37 [Inhabited fz_] : QSF N (q37 N a b) := by unfold q37; exact QSF_tr (QSF_up (.inr (by decide)) (fun _ => by decide)) (QSF_up (.inr (by decide)) (fun _ => by decide))
theorem QSF_ld [Inhabited fz_] {g : Int → Int} : QSF N (q37 (wr_ N 239 g) a b) := QSF_tr (QSF_wr (.inr (by decide)) (by decide)) QSF_q37
/-- what X has and Q has behind a move, of what they had ahead -/
theorem KMV_a [Inhabited fz_] (u : UF M M1) (fx : XRF (p37 M1 a b) M') (fq : QRF (trQ N k) N') : KMV n M N M' N' ∧ (∀ r : Nat, r ∈ sxA → M' r = M r) ∧ (∀ i : Int, i ∈ [62, 63, 64] → M' 0 i = M 0 i) ∧ (∀ r : Nat, r ∈ sqA → N' r = N r) ∧ ∀ i : Int, i ∈ [163, 164, 165, 166, 167, 168, 169] → N' 6 i = N 6 i := by
  have xs : ∀ r : Nat, r ∈ sxA → M' r = M r := fun r hr => by
    have h0 : r ≠ 0 := fun c => by rw [c] at hr; revert hr; decide
    rw [fx.1 r (fun c => by revert hr c; simp only [sxA, xuL, List.mem_cons, List.not_mem_nil, or_false]; omega), p37_r h0, u.1 r (fun c => by revert hr c; simp only [sxA, List.mem_cons, List.not_mem_nil, or_false]; omega)]
  have x0 : ∀ i : Int, i ∈ [11, 62, 63, 64, 69] → M' 0 i = M 0 i := fun i hi => by
    rw [fx.2 i (fun c => by revert hi c; simp only [xfL, List.mem_cons, List.not_mem_nil, or_false]; omega), p37_0 (fun c => by rw [c] at hi; revert hi; decide) (fun c => by rw [c] at hi; revert hi; decide), u.2 i (fun c => by revert hi c; simp only [List.mem_cons, List.not_mem_nil, or_false]; omega)]
  have qs : ∀ r : Nat, r ∈ sqA → N' r = N r := fun r hr => by
    have h6 : r ≠ 6 := fun c => by rw [c] at hr; revert hr; decide
    have h239 : r ≠ 239 := fun c => by rw [c] at hr; revert hr; decide
    rw [fq.1 r (fun c => by revert hr c; simp only [sqA, quL, List.mem_cons, List.not_mem_nil, or_false]; omega), trQ_e, q37_r h6, wr_ne h239]
  have q0 : ∀ i : Int, i ∈ [130, 163, 164, 165, 166, 167, 168, 169] → N' 6 i = N 6 i := fun i hi => by
    rw [fq.2 i (fun c => by revert hi c; simp only [qfL, List.mem_cons, List.not_mem_nil, or_false]; omega), trQ_e, q37_0 (fun c => by rw [c] at hi; revert hi; decide) (fun c => by rw [c] at hi; revert hi; decide), wr_ne (by decide)]
  refine ⟨⟨⟨XSF_tr (XSF_u u) (XSF_tr XSF_p37 (XSF_f fx)), QSF_tr QSF_ld (QSF_f fq)⟩, ⟨fun r hr => xs r (by revert hr; simp only [sxA, List.mem_cons, List.not_mem_nil, or_false]; omega), x0 69 (by decide)⟩, qs 246 (by decide), fun j _ _ => by unfold rwk; rw [qs 245 (by decide)], x0 11 (by decide), q0 130 (by decide)⟩, xs, fun i hi => x0 i (by revert hi; simp only [List.mem_cons, List.not_mem_nil, or_false]; omega), qs, fun i hi => q0 i (by revert hi; simp only [List.mem_cons, List.not_mem_nil, or_false]; omega)⟩
theorem it_mv [Inhabited fz_] (hI : ITV x1 n B x3 x4 x5 M N) (hc : CUT M N 0) (hk : 0 ≤ k ∧ k < n) (hx1 : x1 ≤ 200) (h3 : 0 ≤ x3 ∧ x3 < M 0 69 ∧ M 0 69 ≤ 7258) {AQ : mm_ → Prop}
    (hact : ∀ M1, UF M M1 → (∀ a b, RU 1 (p37 M1 a b) (q37 (wr_ N 239 (ldF (N 239) (rwk N k))) a b)) → PLr (p37 M1 0 0) (trQ N k) → TYA (trQ N k) → M1 0 8 ≤ B + 200 * k → M1 0 7 = rwk N k 0 → ∃ M2 N2, Ex_ 10 45 [.inr (.inr 0), .inl x3] (p37 M1 0 0) [] M2 ∧ AQ N2 ∧ RU 1 M2 N2 ∧ TYA N2 ∧ (XRF (p37 M1 0 0) M2 ∧ QRF (trQ N k) N2) ∧ M2 0 8 ≤ M1 0 8 + 200) :
    ∃ c n' M' N' N2 y4 y5, (c = 0 ∨ c = 1) ∧ AQ N2 ∧ Ex_ 3 387 [.inr (.inr 6), .inl k] N2 [] N' ∧ RC 10 m_37 188 [rr 0, ii x1, ii k, ii x3, ii x4, ii x5] M (if c = 0 then 188 else 341) [rr 0, ii x1, ii k, ii (if c = 0 then x3 + 1 else x3), ii y4, ii y5] M' ∧ ITV x1 n' B (if c = 0 then x3 + 1 else x3) y4 y5 M' N' ∧ CUT M' N' c ∧ n ≤ n' ∧ KMV n M N M' N' := by
  obtain ⟨⟨hV, hP, hA⟩, ⟨hS, hb⟩, ⟨hl1, hl2⟩, ⟨h166, h167, h168⟩, h64⟩ := hI
  have n2 := hS.2.1
  obtain ⟨M1, x41, u, ru, ty, b8, b7⟩ := j_trv hV hP hA hS hk
  have Pz : PLr (p37 M1 0 0) (trQ N k) := PLr_s hP (XSF_tr (XSF_u u) XSF_p37) QSF_ld
  obtain ⟨M2, N2, xa, qa, r2, t2, fr, c8⟩ := hact M1 u ru Pz (ty 0 0) b8 b7
  obtain ⟨km, xs, xf, qs, qf⟩ := KMV_a (n := n) (k := k) u fr.1 fr.2
  have P2 : PLr M2 N2 := PLr_s hP km.1.1 km.1.2
  have hN := PKB_of hP
  have S2 : SST M2 N2 n B := SST_c hS (xf 62 (by decide)) (qf 163 (by decide)) (fun r hr k _ _ _ => by rw [xs r (by revert hr; simp only [sxA, List.mem_cons, List.not_mem_nil, or_false]; omega)]) (fun r hr => by
      by_cases c : r ∈ sqA
      · exact qs r c
      · exact km.1.2.1 r c (fun e => by revert hr e; simp only [quL, List.mem_cons, List.not_mem_nil, or_false]; omega)) (km.1.2.2 18 (by decide)) ⟨km.1.2.2 19 (by decide), km.1.2.2 17 (by decide)⟩ (fun k k0 k1 => pkL_len hN (hS.2.2 k k0 k1).1.1)
  have b2 : BKT M2 n := BKT_c hb (fun i _ _ => by rw [xs 29 (by decide)]) (xs 30 (by decide)) (xs 31 (by decide))
  have I2 : ITR x1 n B x3 x4 x5 M2 N2 := ⟨⟨r2, P2, t2⟩, ⟨S2, b2⟩, ⟨hl1, by rw [qf 165 (by decide)]; exact hl2⟩, ⟨by rw [qf 166 (by decide)]; exact h166, by rw [qf 167 (by decide)]; exact h167, by rw [qf 168 (by decide)]; exact h168⟩, by rw [xf 64 (by decide), qf 164 (by decide)]; exact h64⟩
  obtain ⟨c, n', M', N', d1, d2, d3, d4, d5, d6, d7⟩ := j_mvd I2 ⟨by rw [xf 63 (by decide)]; exact hc.1, by rw [qf 169 (by decide)]; exact hc.2⟩ hk (by omega) hx1 (by omega)
  refine ⟨c, n', M', N', N2, _, _, d1, qa, d2, fun V Qr Qt hV hW g => b_37_188 (Tr_mono _) hV hW _ _ _ _ _ _ ?_, ITV_of d4, d5, d6, KMV_tr km d7 (Int.le_refl _)⟩
  rw [if_pos h3.2.1]
  refine Ex_le (d := 2) (by decide) x41 _ _ (rv_i ?_)
  exact xa _ _ (rv_i (d3 V Qr Qt hV hW g))
end ITa
end T409_it
section T410_ph
/-! the search: the steps of a state (Q 384) -/
/-- X's and Q's memories when the moves were found -/
def REF [Inhabited fz_] (k : Int) (Mu N0 M N : mm_) : Prop := (RU 1 Mu N0 ∧ PLr Mu N0 ∧ TYA N0) ∧ (∀ i, 0 ≤ i → i < 1104 → N0 239 i = rwk N k i) ∧ QSF N0 N ∧ Mu 0 9 = M 0 9
/-- between two moves; R are those to come -/
def PHA [Inhabited fz_] (x1 k n B x3 x4 x5 : Int) (M N : mm_) (R : List (Int × Int × Int)) : Prop := ITV x1 n B x3 x4 x5 M N ∧ CUT M N 0 ∧ (0 ≤ k ∧ k < n) ∧ 0 ≤ x3 ∧ MVS M x3 R ∧ M 0 69 = x3 + R.length ∧ M 0 69 ≤ 7258
/-- some moves are made, R are left (c: it was cut) -/
def PDN [Inhabited fz_] (x1 k n B x3 x4 x5 : Int) (M N : mm_) (R : List (Int × Int × Int)) (QE : mm_ → Prop) : Prop := ∃ c n' y3 y4 y5 M' N', (c = 0 ∨ c = 1) ∧ QE N' ∧ RC 10 m_37 188 [rr 0, ii x1, ii k, ii x3, ii x4, ii x5] M (if c = 0 then 188 else 341) [rr 0, ii x1, ii k, ii y3, ii y4, ii y5] M' ∧ ITV x1 n' B y3 y4 y5 M' N' ∧ CUT M' N' c ∧ n ≤ n' ∧ KMV n M N M' N' ∧ (c = 0 → PHA x1 k n' B y3 y4 y5 M' N' R)
section PHa
variable {M N M' N' M1 N1 Mu N0 : mm_} {a b k n n1 B x1 x3 x4 x5 y3 y4 y5 c w i cnt : Int} {R L : List (Int × Int × Int)} {QE QF : mm_ → Prop} {mv : Int × Int × Int}
theorem PDN_0 [Inhabited fz_] (h : PHA x1 k n B x3 x4 x5 M N R) (hq : QE N) : PDN x1 k n B x3 x4 x5 M N R QE := ⟨0, n, x3, x4, x5, M, N, .inl rfl, hq, by rw [if_pos rfl]; exact RC_rf, h.1, h.2.1, Int.le_refl _, KMV_rf, fun _ => h⟩
theorem PDN_s [Inhabited fz_] (hr : RC 10 m_37 188 [rr 0, ii x1, ii k, ii x3, ii x4, ii x5] M 188 [rr 0, ii x1, ii k, ii y3, ii y4, ii y5] M1) (hk : KMV n M N M1 N1) (hn : n ≤ n1) (h : PDN x1 k n1 B y3 y4 y5 M1 N1 R QE) (hq : ∀ N', QE N' → QF N') : PDN x1 k n B x3 x4 x5 M N R QF := by
  obtain ⟨c, n', z3, z4, z5, M', N', h1, h2, h3, h4, h5, h6, h7, h8⟩ := h
  exact ⟨c, n', z3, z4, z5, M', N', h1, hq _ h2, RC_tr hr h3, h4, h5, by omega, KMV_tr hk h7 hn, h8⟩
theorem PDN_c [Inhabited fz_] (hr : RC 10 m_37 188 [rr 0, ii x1, ii k, ii x3, ii x4, ii x5] M 341 [rr 0, ii x1, ii k, ii y3, ii y4, ii y5] M') (hI : ITV x1 n1 B y3 y4 y5 M' N') (hc : CUT M' N' 1) (hn : n ≤ n1) (hk : KMV n M N M' N') (hq : QE N') : PDN x1 k n B x3 x4 x5 M N R QE := ⟨1, n1, y3, y4, y5, M', N', .inr rfl, hq, by rw [if_neg (by decide)]; exact hr, hI, hc, hn, hk, fun e => absurd e (by decide)⟩
theorem REF_k [Inhabited fz_] (h : REF k Mu N0 M N) (hk : KMV n M N M' N') (hj : 0 ≤ k ∧ k < n) : REF k Mu N0 M' N' := ⟨h.1, fun i i0 i1 => by rw [hk.2.2.2.1 k hj.1 hj.2]; exact h.2.1 i i0 i1, QSF_tr h.2.2.1 hk.1.2, by rw [hk.1.1.2 9 (by decide)]; exact h.2.2.2⟩
/-- one move of the list -/
theorem PHA_mv [Inhabited fz_] (h : PHA x1 k n B x3 x4 x5 M N (mv :: R)) : (0 ≤ x3 ∧ x3 < M 0 69 ∧ M 0 69 ≤ 7258) ∧ (M 38 x3 = mv.1 ∧ M 39 x3 = mv.2.1 ∧ M 40 x3 = mv.2.2) := by
  obtain ⟨_, _, _, h0, hm, hl, h7⟩ := h
  rw [List.length_cons] at hl
  exact ⟨⟨h0, by omega, h7⟩, hm.1⟩
theorem PHA_n [Inhabited fz_] (h : PHA x1 k n B x3 x4 x5 M N (mv :: R)) (hI : ITV x1 n1 B (x3 + 1) y4 y5 M' N') (hc : CUT M' N' 0) (hn : n ≤ n1) (hk : KMV n M N M' N') : PHA x1 k n1 B (x3 + 1) y4 y5 M' N' R := by
  obtain ⟨_, _, hkk, h0, hm, hl, h7⟩ := h
  rw [List.length_cons] at hl
  refine ⟨hI, hc, by omega, by omega, MVS_c (fun i _ _ => by rw [hk.2.1.1 38 (by decide), hk.2.1.1 39 (by decide), hk.2.1.1 40 (by decide)]; exact ⟨rfl, rfl, rfl⟩) hm.2, by rw [hk.2.1.2]; omega, by rw [hk.2.1.2]; exact h7⟩
/-- Q tried and did not move -/
theorem KMV_q [Inhabited fz_] (hn : QSF N N1) (hq : ∀ r : Nat, r ∈ sqA → N1 r = N r) (h130 : N1 6 130 = N 6 130) : KMV n M N M N1 := ⟨⟨XSF_rf, hn⟩, ⟨fun _ _ => rfl, rfl⟩, hq 246 (by decide), fun j _ _ => by unfold rwk; rw [hq 245 (by decide)], rfl, h130⟩
theorem ITV_q [Inhabited fz_] (hI : ITV x1 n B x3 x4 x5 M N) (u : UF M M1) (hr : RU 1 (p37 M1 a b) N1) (hA : TYA N1) (hn : QSF N N1) (hq : ∀ r : Nat, r ∈ sqA → N1 r = N r) (h6 : ∀ i : Int, i ∈ [163, 164, 165, 166, 167, 168] → N1 6 i = N 6 i) : ITV x1 n B x3 x4 x5 M N1 := by
  obtain ⟨⟨hV, hP, _⟩, ⟨hS, hb⟩, ⟨hl1, hl2⟩, ⟨h166, h167, h168⟩, h64⟩ := hI
  refine ⟨⟨⟨p37 M1 a b, hr, fun r hr => ?_, fun i hi => ?_⟩, PLr_s hP XSF_rf hn, hA⟩, ⟨SST_c hS rfl (h6 163 (by decide)) (fun _ _ _ _ _ _ => rfl) (fun r hr => ?_) (hn.2 18 (by decide)) ⟨hn.2 19 (by decide), hn.2 17 (by decide)⟩ (fun k k0 k1 => pkL_len (PKB_of hP) (hS.2.2 k k0 k1).1.1), hb⟩, ⟨hl1, by rw [h6 165 (by decide)]; exact hl2⟩, ⟨by rw [h6 166 (by decide)]; exact h166, by rw [h6 167 (by decide)]; exact h167, by rw [h6 168 (by decide)]; exact h168⟩, by rw [h6 164 (by decide)]; exact h64⟩
  · rw [p37_r (fun c => hr (by rw [c]; decide))]; exact u.1 r hr
  · rw [p37_0 (fun c => hi (by rw [c]; decide)) (fun c => hi (by rw [c]; decide))]; exact u.2 i (fun c => hi (by revert c; simp only [List.mem_cons, List.not_mem_nil, or_false]; omega))
  · by_cases c : r ∈ sqA
    · exact hq r c
    · exact hn.1 r c (fun e => by revert hr e; simp only [quL, List.mem_cons, List.not_mem_nil, or_false]; omega)
theorem tr_s [Inhabited fz_] : QSF N (trQ N k) ∧ (∀ r : Nat, r ∈ sqA → trQ N k r = N r) ∧ (∀ i : Int, i ∉ [138, 139] → trQ N k 6 i = N 6 i) ∧ ∀ i, 0 ≤ i → i < 1104 → trQ N k 239 i = rwk N k i := by
  refine ⟨QSF_ld, fun r hr => ?_, fun i hi => ?_, fun i i0 i1 => ?_⟩
  · rw [trQ_e, q37_r (fun c => by rw [c] at hr; revert hr; decide), wr_ne (fun c => by rw [c] at hr; revert hr; decide)]
  · rw [trQ_e, q37_0 (fun c => hi (by rw [c]; decide)) (fun c => hi (by rw [c]; decide)), wr_ne (by decide)]
  · rw [trQ_e, q37_r (by decide), wr_same]; unfold ldF; rw [if_pos ⟨i0, i1⟩]
/-- what an instance would do, when tried, is what it would have done when the moves were found -/
theorem w_rf [Inhabited fz_] (hf : REF k Mu N0 M N) (u : UF M M1) (ru : RU 1 (p37 M1 0 0) (trQ N k)) (ty : TYA (trQ N k)) (hi : 0 ≤ i ∧ i < rwk N k 0) {w2 : Int} (q : Ex_ 6 336 [.inr (.inr 6), .inl i] N0 [.inl w] N1) (q2 : Ex_ 6 336 [.inr (.inr 6), .inl i] (trQ N k) [.inl w2] N') : w2 = w := by
  obtain ⟨⟨r0, p0, t0⟩, hr, qs, h9⟩ := hf
  obtain ⟨t1, t2, t3, t4⟩ := tr_s (N := N) (k := k)
  have qs2 := QSF_tr qs t1
  have e7 : Mu 0 7 = rwk N k 0 := by rw [← r0.1.1.2.2, hr 0 (by decide) (by decide)]
  exact w_br r0 p0 t0 (by omega) q ru (PLr_s p0 XSF_rf qs2) ty (fun i i0 i1 => by rw [t4 i i0 i1, hr i i0 i1]) (qs2.2 18 (by decide)) (qs2.2 19 (by decide)) (fun r hr => qs2.1 r (fun e => by revert hr e; simp only [sqA, List.mem_cons, List.not_mem_nil, or_false]; omega) (fun e => by revert hr e; simp only [quL, List.mem_cons, List.not_mem_nil, or_false]; omega)) (by rw [h9, p37_0 (by decide) (by decide), u.2 9 (by decide)]) q2
theorem p_384 [Inhabited fz_] (hB : B + 40400 ≤ 2000000000) (hx1 : x1 ≤ 200) : ∀ (j : Nat) (i n x3 x4 x5 : Int) (M N : mm_) (L1 : List (Int × Int × Int)), PHA x1 k n B x3 x4 x5 M N (L1 ++ R) → REF k Mu N0 M N → STL N0 i j L1 → i + j = cnt → 0 ≤ i → rwk N k 0 = cnt → PDN x1 k n B x3 x4 x5 M N R (fun N' => ∀ (V : vv_) (Qr : qr_) (Qt : qt_), Cl_ wd0 (Tr_ wd0 pg0 9) V Qr Qt m_384 → Wk_ V → Qr [] N' → V 13 [rr 6, ii k, ii cnt, ii i, none] [] N) := fun j => by
  induction j with
  | zero =>
    intro i n x3 x4 x5 M N L1 h hf hs hi i0 hc
    have e : L1 = [] := hs
    subst e
    refine PDN_0 h (fun V Qr Qt hV hW g => b_384_13 (Tr_mono _) hV hW _ _ _ _ ?_)
    rw [if_neg (by omega)]; exact g
  | succ j ih =>
    intro i n x3 x4 x5 M N L1 h hf hs hi i0 hc
    obtain ⟨w, Nw, qw, hs⟩ := hs
    obtain ⟨hI, hcut, hk, h0, hm, hl, h7⟩ := id h
    obtain ⟨⟨hV', hP, hA⟩, ⟨hS, hb⟩, hl12, h16, h64⟩ := id hI
    have n2 := hS.2.1
    have k2 : 0 ≤ k ∧ k < 200 := by omega
    have f12 : cnt ≤ 12 := by rw [← hc]; exact (hS.2.2 k hk.1 hk.2).1.1.1.1.2
    obtain ⟨t1, t2, t3, t4⟩ := tr_s (N := N) (k := k)
    have wi : w32 (i + 1) = i + 1 := w32_id (by omega) (by omega)
    rcases hs with ⟨cw, hs⟩ | ⟨cw, L2, eL, hs⟩
    · -- it would not step
      obtain ⟨M1, x41, u, ru, ty, b8, b7⟩ := j_trv hV' hP hA hS hk
      have Pz : PLr (p37 M1 0 0) (trQ N k) := PLr_s hP (XSF_tr (XSF_u u) XSF_p37) QSF_ld
      obtain ⟨w2, A', N1, xw, q2, gx, gq, _⟩ := j_12 (s := i) (ru 0 0) Pz (ty 0 0) (by rw [p37_0 (by decide) (by decide), b7]; omega)
      have ew : w2 = w := w_rf hf u (ru 0 0) (ty 0 0) (by omega) qw q2
      have gs := QSF_tr t1 (QSF_f (QRF_eg gq))
      have gr : ∀ r : Nat, r ∈ sqA → N1 r = N r := fun r hr => by rw [gq.1 r (fun c => by rw [c] at hr; revert hr; decide) (fun c => by rw [c] at hr; revert hr; decide)]; exact t2 r hr
      have g6 : ∀ i : Int, i ∈ [130, 163, 164, 165, 166, 167, 168, 169] → N1 6 i = N 6 i := fun i hi => by rw [gq.2 i (fun c => by revert hi c; simp only [List.mem_cons, List.not_mem_nil, or_false]; omega)]; exact t3 i (fun c => by revert hi c; simp only [List.mem_cons, List.not_mem_nil, or_false]; omega)
      have kq : KMV n M N M N1 := KMV_q gs gr (g6 130 (by decide))
      have I1 := ITV_q hI u (RU_eg (ru 0 0) EGX_rf gq) (TYA_eg (ty 0 0) gq) gs gr (fun i hi => g6 i (by revert hi; simp only [List.mem_cons, List.not_mem_nil, or_false]; omega))
      have h1 : PHA x1 k n B x3 x4 x5 M N1 (L1 ++ R) := ⟨I1, ⟨hcut.1, by rw [g6 169 (by decide)]; exact hcut.2⟩, hk, h0, hm, hl, h7⟩
      refine PDN_s RC_rf kq (Int.le_refl _) (ih (i + 1) n x3 x4 x5 M N1 L1 h1 (REF_k hf kq hk) hs (by omega) (by omega) (by rw [kq.2.2.2.1 k hk.1 hk.2]; exact hc)) (fun N' hq V Qr Qt hV hW g => b_384_13 (Tr_mono _) hV hW _ _ _ _ ?_)
      rw [if_pos (by omega), if_pos hcut.2]
      refine fun _ => Ex_le (d := 2) (by decide) (q_385 k2) _ _ (rv_i (Ex_le (d := 6) (by decide) q2 _ _ (ri_i ?_)))
      rw [if_pos (by omega), wi]; exact hq V Qr Qt hV hW g
    · -- it steps
      subst eL
      obtain ⟨b3, m1, m2, m3⟩ := PHA_mv h
      obtain ⟨c, n', M', N', N2, y4, y5, d1, d2, d3, d4, d5, d6, d7, d8⟩ := it_mv (AQ := fun N2 => ∃ Nx, Ex_ 6 336 [.inr (.inr 6), .inl i] (trQ N k) [.inl w] Nx ∧ Ex_ 9 345 [.inr (.inr 6), .inl i, .inl w] Nx [] N2) hI hcut hk hx1 b3 (fun M1 u ru Pz ty b8 b7 => by
        have hi2 : 0 ≤ i ∧ i < p37 M1 0 0 0 7 := by rw [p37_0 (by decide) (by decide), b7]; omega
        obtain ⟨w2, A', N1, xw, q2, gx, gq, fw⟩ := j_12 (s := i) (ru 0 0) Pz ty hi2
        have ew : w2 = w := w_rf hf u (ru 0 0) ty (by omega) qw q2
        subst ew
        have e8 : p37 M1 0 0 0 8 = M1 0 8 := p37_0 (by decide) (by decide)
        obtain ⟨Me, Ne, xe, qe, re, Ae, fe, c8⟩ := st_w (ru 0 0) Pz ty hi2 (by rw [e8]; omega) gx gq xw fw cw
        refine ⟨Me, Ne, fun Qr Qt g => t_45 fun V hV hW => b_45_0 (Tr_mono _) hV hW _ _ ⟨by omega, ?_⟩, ⟨N1, q2, qe⟩, re, Ae, fe, by rw [e8] at c8; exact c8⟩
        have e38 : p37 M1 0 0 38 = M 38 := by rw [p37_r (by decide)]; exact u.1 38 (by decide)
        have e39 : p37 M1 0 0 39 = M 39 := by rw [p37_r (by decide)]; exact u.1 39 (by decide)
        rw [e38, e39, if_pos m1, m2]
        exact ⟨by omega, xe _ _ (rv_i g)⟩)
      obtain ⟨Nx, e1, e2⟩ := d2
      have qst : ∀ (V : vv_) (Qr : qr_) (Qt : qt_), Cl_ wd0 (Tr_ wd0 pg0 9) V Qr Qt m_384 → Wk_ V → V 13 [rr 6, ii k, ii cnt, ii (i + 1), none] [] N' → V 13 [rr 6, ii k, ii cnt, ii i, none] [] N := fun V Qr Qt hV hW g => b_384_13 (Tr_mono _) hV hW _ _ _ _ (by
        rw [if_pos (by omega), if_pos hcut.2]
        refine fun _ => Ex_le (d := 2) (by decide) (q_385 k2) _ _ (rv_i (Ex_le (d := 6) (by decide) e1 _ _ (ri_i ?_)))
        have wp : ¬ w ≤ 0 := by
          intro hw
          obtain ⟨M1, x41, u, ru, ty, b8, b7⟩ := j_trv hV' hP hA hS hk
          exact absurd hw (by
            obtain ⟨w2, A', N1, xw, q2, gx, gq, fw⟩ := j_12 (s := i) (ru 0 0) (PLr_s hP (XSF_tr (XSF_u u) XSF_p37) QSF_ld) (ty 0 0) (by rw [p37_0 (by decide) (by decide), b7]; omega)
            have ew : w2 = w := w_rf hf u (ru 0 0) (ty 0 0) (by omega) qw q2
            rcases fw with e | e | e | e | e <;> omega)
        rw [if_neg wp, wi]
        exact e2 _ _ (rv_i (Ex_le (d := 3) (by decide) d3 _ _ (rv_i g))))
      rcases d1 with e | e
      · subst e
        rw [if_pos rfl] at d4; rw [if_pos rfl] at d4 d5
        refine PDN_s d4 d8 d7 (ih (i + 1) n' (x3 + 1) y4 y5 M' N' L2 (PHA_n h d5 d6 d7 d8) (REF_k hf d8 hk) hs (by omega) (by omega) (by rw [d8.2.2.2.1 k hk.1 hk.2]; exact hc)) (fun N'' hq V Qr Qt hV hW g => qst V Qr Qt hV hW (hq V Qr Qt hV hW g))
      · subst e
        rw [if_neg (by decide)] at d4; rw [if_neg (by decide)] at d4 d5
        refine PDN_c d4 d5 d6 d7 d8 (fun V Qr Qt hV hW g => qst V Qr Qt hV hW (b_384_13 (Tr_mono _) hV hW _ _ _ _ ?_))
        by_cases ce : i + 1 < cnt
        · rw [if_pos ce, d6.2, if_neg (by decide)]; exact fun _ => g
        · rw [if_neg ce]; exact g
end PHa
end T410_ph
section T411_pa
/-! the search: arrivals and timers of a state (Q 389, 390) -/
section PBa
variable {M N M' N' M1 N1 Mu N0 : mm_} {a b k n n1 B x1 x3 x4 x5 y3 y4 y5 c w i cnt : Int} {R L : List (Int × Int × Int)}
theorem p_389 [Inhabited fz_] (hx1 : x1 ≤ 200) : ∀ (j : Nat) (r n x3 x4 x5 : Int) (M N : mm_), PHA x1 k n B x3 x4 x5 M N (arL (N0 239) r j ++ R) → REF k Mu N0 M N → r + j = N0 6 18 → 0 ≤ r → PDN x1 k n B x3 x4 x5 M N R (fun N' => ∀ (V : vv_) (Qr : qr_) (Qt : qt_), Cl_ wd0 (Tr_ wd0 pg0 9) V Qr Qt m_389 → Wk_ V → Qr [] N' → V 2 [rr 6, ii k, ii r] [] N) := fun j => by
  induction j with
  | zero =>
    intro r n x3 x4 x5 M N h hf hr r0
    refine PDN_0 h (fun V Qr Qt hV hW g => b_389_2 (Tr_mono _) hV hW _ _ _ ?_)
    rw [hf.2.2.1.2 18 (by decide), if_neg (by omega)]; exact g
  | succ j ih =>
    intro r n x3 x4 x5 M N h hf hr r0
    obtain ⟨hI, hcut, hk, h0, hm, hl, h7⟩ := id h
    obtain ⟨⟨hV', hP, hA⟩, ⟨hS, hb⟩, hl12, h16, h64⟩ := id hI
    have n2 := hS.2.1
    have k2 : 0 ≤ k ∧ k < 200 := by omega
    have h18 := hf.1.1.2.1.1
    have e18 : N 6 18 = N0 6 18 := hf.2.2.1.2 18 (by decide)
    have hR : sR r = 674 + 43 * r := rfl
    have ef := hf.2.1 (sR r) (by omega) (by omega)
    rw [rwk_i (by omega) (by omega)] at ef
    have wr : w32 (r + 1) = r + 1 := w32_id (by omega) (by omega)
    have wx : w32 (w32 (1104 * k) + sR r) = 1104 * k + sR r := by rw [w32_id (x := 1104 * k) (by omega) (by omega), w32_id (by omega) (by omega)]
    unfold arL at h
    by_cases c0 : N0 239 (sR r) = 0
    · rw [if_pos c0] at h
      refine PDN_s RC_rf KMV_rf (Int.le_refl _) (ih (r + 1) n x3 x4 x5 M N h hf (by omega) (by omega)) (fun N' hq V Qr Qt hV hW g => b_389_2 (Tr_mono _) hV hW _ _ _ ?_)
      rw [e18, if_pos (by omega), if_pos hcut.2]
      refine fun _ => Ex_le (d := 1) (by decide) (q_327 (by omega)) _ _ (ri_i ?_)
      rw [wx, ← ef, if_pos c0, wr]; exact ⟨by omega, hq V Qr Qt hV hW g⟩
    · rw [if_neg c0] at h
      obtain ⟨b3, m1, m2, m3⟩ := PHA_mv h
      obtain ⟨c, n', M', N', N2, y4, y5, d1, d2, d3, d4, d5, d6, d7, d8⟩ := it_mv (AQ := fun N2 => Ex_ 4 328 [.inr (.inr 6), .inl r] (trQ N k) [] N2) hI hcut hk hx1 b3 (fun M1 u ru Pz ty b8 b7 => by
        obtain ⟨t1, t2, t3, t4⟩ := tr_s (N := N) (k := k)
        have r1 := ru 0 0
        have hr2 : 0 ≤ r ∧ r < trQ N k 6 18 := by rw [t3 18 (by decide), e18]; omega
        have o := (r1.2.1.2.1 r hr2.1 hr2.2).1
        have o3 : trQ N k 239 (sR r) = p37 M1 0 0 21 r := o.2.2
        rw [t4 _ (by omega) (by omega), ← hf.2.1 (sR r) (by omega) (by omega)] at o3
        have h1 : 0 < p37 M1 0 0 21 r := by omega
        refine ⟨lX (p37 M1 0 0) r, lQ (trQ N k) r, fun Qr Qt g => t_45 fun V hV hW => b_45_0 (Tr_mono _) hV hW _ _ ⟨by omega, ?_⟩, q_328 r1 hr2 h1, RU_l r1 hr2 h1, TYA_l r1 ty hr2 h1, ⟨XRF_l, QRF_l⟩, ?_⟩
        · have e38 : p37 M1 0 0 38 = M 38 := by rw [p37_r (by decide)]; exact u.1 38 (by decide)
          have e39 : p37 M1 0 0 39 = M 39 := by rw [p37_r (by decide)]; exact u.1 39 (by decide)
          have m1' : M 38 x3 = 1 := m1
          have m2' : M 39 x3 = r := m2
          rw [e38, e39, if_neg (by omega), if_pos m1', m2']
          exact ⟨by omega, Ex_le (d := 5) (by decide) (x_3 r1 hr2 h1) _ _ (rv_i g)⟩
        · rw [(KPX_l (M := p37 M1 0 0) (r := r)).2.1, p37_0 (by decide) (by decide)]; omega)
      have qst : ∀ (V : vv_) (Qr : qr_) (Qt : qt_), Cl_ wd0 (Tr_ wd0 pg0 9) V Qr Qt m_389 → Wk_ V → V 2 [rr 6, ii k, ii (r + 1)] [] N' → V 2 [rr 6, ii k, ii r] [] N := fun V Qr Qt hV hW g => b_389_2 (Tr_mono _) hV hW _ _ _ (by
        rw [e18, if_pos (by omega), if_pos hcut.2]
        refine fun _ => Ex_le (d := 1) (by decide) (q_327 (by omega)) _ _ (ri_i ?_)
        rw [wx, ← ef, if_neg c0, wr]
        exact ⟨by omega, Ex_le (d := 2) (by decide) (q_385 k2) _ _ (rv_i (Ex_le (d := 4) (by decide) d2 _ _ (rv_i (Ex_le (d := 3) (by decide) d3 _ _ (rv_i g)))))⟩)
      rcases d1 with e | e
      · subst e
        rw [if_pos rfl] at d4; rw [if_pos rfl] at d4 d5
        exact PDN_s d4 d8 d7 (ih (r + 1) n' (x3 + 1) y4 y5 M' N' (PHA_n h d5 d6 d7 d8) (REF_k hf d8 hk) (by omega) (by omega)) (fun N'' hq V Qr Qt hV hW g => qst V Qr Qt hV hW (hq V Qr Qt hV hW g))
      · subst e
        rw [if_neg (by decide)] at d4; rw [if_neg (by decide)] at d4 d5
        refine PDN_c d4 d5 d6 d7 d8 (fun V Qr Qt hV hW g => qst V Qr Qt hV hW (b_389_2 (Tr_mono _) hV hW _ _ _ ?_))
        by_cases ce : r + 1 < N' 6 18
        · rw [if_pos ce, d6.2, if_neg (by decide)]; exact fun _ => g
        · rw [if_neg ce]; exact g
/-- Q, when it was cut -/
theorem c_389 [Inhabited fz_] (hN : N 6 169 = 1) {V : vv_} {Qr : qr_} {Qt : qt_} (hV : Cl_ wd0 (Tr_ wd0 pg0 9) V Qr Qt m_389) (hW : Wk_ V) (g : Qr [] N) : V 2 [rr 6, ii k, ii 0] [] N := b_389_2 (Tr_mono _) hV hW _ _ _ (by
  by_cases ce : 0 < N 6 18
  · rw [if_pos ce, hN, if_neg (by decide)]; exact fun _ => g
  · rw [if_neg ce]; exact g)
theorem c_390 [Inhabited fz_] (hN : N 6 169 = 1) (hc : cnt ≤ 12) {V : vv_} {Qr : qr_} {Qt : qt_} (hV : Cl_ wd0 (Tr_ wd0 pg0 9) V Qr Qt m_390) (hW : Wk_ V) (g : Qr [] N) : ∀ (j : Nat) (i : Int), i + j = cnt → 0 ≤ i → V 13 [rr 6, ii k, ii cnt, ii i, none] [] N := fun j => by
  induction j with
  | zero => intro i hi i0; refine b_390_13 (Tr_mono _) hV hW _ _ _ _ ?_; rw [if_neg (by omega)]; exact g
  | succ j ih =>
    intro i hi i0
    refine b_390_13 (Tr_mono _) hV hW _ _ _ _ ?_
    rw [if_pos (by omega)]
    refine b_390_21 (Tr_mono _) hV hW _ _ _ _ _ ?_
    rw [if_pos (by decide), hN, if_neg (by decide), w32_id (x := i + 1) (by omega) (by omega)]
    exact fun _ => ih (i + 1) (by omega) (by omega)
theorem c_391 [Inhabited fz_] (hN : N 6 169 = 1) (hc : cnt ≤ 12) {V : vv_} {Qr : qr_} {Qt : qt_} (hV : Cl_ wd0 (Tr_ wd0 pg0 9) V Qr Qt m_391) (hW : Wk_ V) (g : Qr [] N) : ∀ (j : Nat) (i : Int), i + j = cnt → 0 ≤ i → V 13 [rr 6, ii k, ii cnt, ii i, none, none, none] [] N := fun j => by
  induction j with
  | zero => intro i hi i0; refine b_391_13 (Tr_mono _) hV hW _ _ _ _ ?_; rw [if_neg (by omega)]; exact g
  | succ j ih =>
    intro i hi i0
    refine b_391_13 (Tr_mono _) hV hW _ _ _ _ ?_
    rw [if_pos (by omega)]
    refine b_391_24 (Tr_mono _) hV hW _ _ _ _ _ _ ?_
    rw [if_neg (by decide), hN, if_neg (by decide), w32_id (x := i + 1) (by omega) (by omega)]
    exact fun _ => ih (i + 1) (by omega) (by omega)
/-- timers -/
def en_390 (V : vv_) (k cnt kk : Int) (N : mm_) : Prop := if kk % 3 = 0 then V 13 [rr 6, ii k, ii cnt, ii (kk / 3), none] [] N else V 21 [rr 6, ii k, ii cnt, ii (kk / 3), ii (kk % 3)] [] N
theorem p_390 [Inhabited fz_] (hx1 : x1 ≤ 200) (hcn : 0 ≤ cnt ∧ cnt ≤ 12) : ∀ (j : Nat) (kk n x3 x4 x5 : Int) (M N : mm_), PHA x1 k n B x3 x4 x5 M N (tmL (N0 239) kk j ++ R) → REF k Mu N0 M N → kk + j = 3 * cnt → 0 ≤ kk → Mu 0 7 = cnt → PDN x1 k n B x3 x4 x5 M N R (fun N' => ∀ (V : vv_) (Qr : qr_) (Qt : qt_), Cl_ wd0 (Tr_ wd0 pg0 9) V Qr Qt m_390 → Wk_ V → Qr [] N' → en_390 V k cnt kk N) := fun j => by
  induction j with
  | zero =>
    intro kk n x3 x4 x5 M N h hf hr r0 h7u
    refine PDN_0 h (fun V Qr Qt hV hW g => ?_)
    unfold en_390
    rw [if_pos (by omega)]
    refine b_390_13 (Tr_mono _) hV hW _ _ _ _ ?_
    rw [if_neg (by omega)]; exact g
  | succ j ih =>
    intro kk n x3 x4 x5 M N h hf hr r0 h7u
    obtain ⟨hI, hcut, hk, h0, hm, hl, h7⟩ := id h
    obtain ⟨⟨hV', hP, hA⟩, ⟨hS, hb⟩, hl12, h16, h64⟩ := id hI
    have n2 := hS.2.1
    have k2 : 0 ≤ k ∧ k < 200 := by omega
    generalize hi : kk / 3 = i
    generalize ht : kk % 3 = t
    have ekk : kk = 3 * i + t := by omega
    have t3 : 0 ≤ t ∧ t < 3 := by omega
    have hB : sB i = 2 + 56 * i := rfl
    have ef := hf.2.1 (sB i + 22 + t) (by omega) (by omega)
    rw [rwk_i (by omega) (by omega)] at ef
    have wt : w32 (t + 1) = t + 1 := w32_id (by omega) (by omega)
    have wx : w32 (w32 (w32 (w32 (1104 * k) + sB i) + 22) + t) = 1104 * k + (sB i + 22 + t) := by
      rw [w32_id (x := 1104 * k) (by omega) (by omega), w32_id (x := 1104 * k + sB i) (by omega) (by omega), w32_id (x := 1104 * k + sB i + 22) (by omega) (by omega), w32_id (by omega) (by omega)]; omega
    -- at the timer
    have to21 : ∀ (V : vv_) (Qr : qr_) (Qt : qt_), Cl_ wd0 (Tr_ wd0 pg0 9) V Qr Qt m_390 → Wk_ V → V 21 [rr 6, ii k, ii cnt, ii i, ii t] [] N → en_390 V k cnt kk N := fun V Qr Qt hV hW g => by
      unfold en_390
      rw [hi, ht]
      by_cases c : t = 0
      · rw [if_pos c]
        refine b_390_13 (Tr_mono _) hV hW _ _ _ _ ?_
        rw [if_pos (by omega), ← c]; exact g
      · rw [if_neg c]; exact g
    have nx : ∀ (A : mm_) (V : vv_) (Qr : qr_) (Qt : qt_), Cl_ wd0 (Tr_ wd0 pg0 9) V Qr Qt m_390 → Wk_ V → en_390 V k cnt (kk + 1) A → V 21 [rr 6, ii k, ii cnt, ii i, ii (t + 1)] [] A := fun A V Qr Qt hV hW g => by
      unfold en_390 at g
      by_cases c : t = 2
      · rw [if_pos (by omega), show (kk + 1) / 3 = i + 1 by omega] at g
        refine b_390_21 (Tr_mono _) hV hW _ _ _ _ _ ?_
        rw [if_neg (by omega), w32_id (x := i + 1) (by omega) (by omega)]; exact g
      · rw [if_neg (by omega), show (kk + 1) / 3 = i by omega, show (kk + 1) % 3 = t + 1 by omega] at g
        exact g
    unfold tmL at h
    rw [hi, ht] at h
    by_cases c0 : N0 239 (sB i + 22 + t) < 0
    · rw [if_pos c0] at h
      refine PDN_s RC_rf KMV_rf (Int.le_refl _) (ih (kk + 1) n x3 x4 x5 M N h hf (by omega) (by omega) h7u) (fun N' hq V Qr Qt hV hW g => to21 V Qr Qt hV hW (b_390_21 (Tr_mono _) hV hW _ _ _ _ _ ?_))
      rw [if_pos t3.2, if_pos hcut.2]
      refine fun _ => Ex_le (d := 1) (by decide) (q_323 (by omega)) _ _ (ri_i ?_)
      rw [wx, ← ef, if_pos c0, wt]; exact ⟨by omega, nx N V Qr Qt hV hW (hq V Qr Qt hV hW g)⟩
    · rw [if_neg c0] at h
      obtain ⟨b3, m1, m2, m3⟩ := PHA_mv h
      obtain ⟨c, n', M', N', N2, y4, y5, d1, d2, d3, d4, d5, d6, d7, d8⟩ := it_mv (AQ := fun N2 => Ex_ 3 334 [.inr (.inr 6), .inl i, .inl t] (trQ N k) [] N2) hI hcut hk hx1 b3 (fun M1 u ru Pz ty b8 b7 => by
        have r1 := ru 0 0
        have e07 := hf.1.1.1.1.2.2
        have hk2 : 0 ≤ i ∧ i < p37 M1 0 0 0 7 := by
          rw [p37_0 (by decide) (by decide), b7, ← hf.2.1 0 (by decide) (by decide)]; omega
        refine ⟨rgX (p37 M1 0 0) i t, rgQ (trQ N k) i t, fun Qr Qt g => t_45 fun V hV hW => b_45_0 (Tr_mono _) hV hW _ _ ⟨by omega, ?_⟩, q_334 r1 hk2 t3, RU_rg r1 hk2 t3, TYA_rg r1 ty hk2 t3, ⟨XRF_rg, QRF_rg⟩, ?_⟩
        · have e38 : p37 M1 0 0 38 = M 38 := by rw [p37_r (by decide)]; exact u.1 38 (by decide)
          have e39 : p37 M1 0 0 39 = M 39 := by rw [p37_r (by decide)]; exact u.1 39 (by decide)
          have e40 : p37 M1 0 0 40 = M 40 := by rw [p37_r (by decide)]; exact u.1 40 (by decide)
          have m1' : M 38 x3 = 2 := m1
          have m2' : M 39 x3 = i := m2
          have m3' : M 40 x3 = t := m3
          rw [e38, e39, e40, if_neg (by omega), if_neg (by omega), if_pos m1', m2', m3']
          exact ⟨by omega, by omega, Ex_le (d := 4) (by decide) (x_10 r1 hk2 t3) _ _ (rv_i g)⟩
        · rw [(rgX_s (M := p37 M1 0 0) (k := i) (t := t)).2.2, p37_0 (by decide) (by decide)]; omega)
      have qst : ∀ (V : vv_) (Qr : qr_) (Qt : qt_), Cl_ wd0 (Tr_ wd0 pg0 9) V Qr Qt m_390 → Wk_ V → en_390 V k cnt (kk + 1) N' → en_390 V k cnt kk N := fun V Qr Qt hV hW g => to21 V Qr Qt hV hW (b_390_21 (Tr_mono _) hV hW _ _ _ _ _ (by
        rw [if_pos t3.2, if_pos hcut.2]
        refine fun _ => Ex_le (d := 1) (by decide) (q_323 (by omega)) _ _ (ri_i ?_)
        rw [wx, ← ef, if_neg c0, wt]
        exact ⟨by omega, Ex_le (d := 2) (by decide) (q_385 k2) _ _ (rv_i (Ex_le (d := 3) (by decide) d2 _ _ (rv_i (Ex_le (d := 3) (by decide) d3 _ _ (rv_i (nx N' V Qr Qt hV hW g))))))⟩))
      rcases d1 with e | e
      · subst e
        rw [if_pos rfl] at d4; rw [if_pos rfl] at d4 d5
        exact PDN_s d4 d8 d7 (ih (kk + 1) n' (x3 + 1) y4 y5 M' N' (PHA_n h d5 d6 d7 d8) (REF_k hf d8 hk) (by omega) (by omega) h7u) (fun N'' hq V Qr Qt hV hW g => qst V Qr Qt hV hW (hq V Qr Qt hV hW g))
      · subst e
        rw [if_neg (by decide)] at d4; rw [if_neg (by decide)] at d4 d5
        refine PDN_c d4 d5 d6 d7 d8 (fun V Qr Qt hV hW g => qst V Qr Qt hV hW ?_)
        unfold en_390
        by_cases c3 : (kk + 1) % 3 = 0
        · rw [if_pos c3]
          exact c_390 d6.2 hcn.2 hV hW g (cnt - (kk + 1) / 3).toNat _ (by omega) (by omega)
        · rw [if_neg c3]
          refine b_390_21 (Tr_mono _) hV hW _ _ _ _ _ ?_
          rw [if_pos (by omega), d6.2, if_neg (by decide), w32_id (x := (kk + 1) / 3 + 1) (by omega) (by omega)]
          exact fun _ => c_390 d6.2 hcn.2 hV hW g (cnt - ((kk + 1) / 3 + 1)).toNat _ (by omega) (by omega)
end PBa
end T411_pa
section T412_pf
/-! the search: the NONEs of a state (Q 391), all its moves -/
def nthL : List Int → Nat → Int
  | [], _ => -1
  | a :: _, 0 => a
  | _ :: L, m + 1 => nthL L m
section PFa
variable {M N M' N' M1 N1 Mu N0 : mm_} {a b k n n1 B x1 x3 x4 x5 y3 y4 y5 c w i cnt T st m : Int} {R R1 L : List (Int × Int × Int)} {QE QF : mm_ → Prop}
theorem nthL_a [Inhabited fz_] : ∀ (pre K : List Int), nthL (pre ++ K) pre.length = nthL K 0
  | [], K => rfl
  | a :: pre, K => by show nthL (pre ++ K) pre.length = _; exact nthL_a pre K
theorem q_18n [Inhabited fz_] {x2 : Int} (hx2 : 0 ≤ x2) (hi : 0 ≤ i ∧ i < 12) (hT : N 239 (sB i + 1) = T) (hst : 0 ≤ st) (h62 : N 6 62 ≤ 600) {V : vv_} {Qr : qr_} {Qt : qt_} (hV : Cl_ wd0 (Tr_ wd0 pg0 1) V Qr Qt m_364) (hW : Wk_ V) : ∀ (j : Nat) (k : Int) (l : Nat), k + j = N 6 62 → 0 ≤ k → (l : Int) < 2147483648 → Qr [.inl (nthL (frQ N T st k j) l)] N → V 18 [rr 6, ii i, ii x2, ii (l : Int), ii st, ii k] [] N := fun j => by
  have hB : sB i = 2 + 56 * i := rfl
  have ws : w32 (sB i + 1) = sB i + 1 := w32_id (by omega) (by omega)
  induction j with
  | zero =>
    intro k l hk k0 _ g
    refine b_364_18 (Tr_mono _) hV hW _ _ _ _ _ _ ?_
    rw [if_neg (by omega)]; exact g
  | succ j ih =>
    intro k l hk k0 hl g
    have wk : w32 (k + 1) = k + 1 := w32_id (by omega) (by omega)
    refine b_364_18 (Tr_mono _) hV hW _ _ _ _ _ _ ?_
    rw [if_pos (by omega), if_neg (by omega), if_neg (by omega)]
    refine ⟨by omega, Ex_le (d := 1) (by decide) (q_323 (by omega)) _ _ (ri_i ?_)⟩
    rw [ws, hT]
    refine ⟨by omega, ?_⟩
    unfold frQ at g
    by_cases c1 : N 192 k = T
    · rw [if_pos c1]
      refine ⟨by omega, ?_⟩
      by_cases c2 : N 193 k = 3
      · rw [if_pos c2]
        refine ⟨by omega, ?_⟩
        by_cases c3 : an_ (sr_ (N 194 k) st) 1 = 0
        · rw [if_neg (fun e => e.2 c3)] at g
          rw [if_pos c3, wk]; exact ih (k + 1) l (by omega) (by omega) hl g
        · rw [if_pos ⟨⟨c1, c2⟩, c3⟩] at g
          rw [if_neg c3]
          cases l with
          | zero => rw [if_pos (by omega)]; exact g
          | succ l =>
            rw [if_neg (by omega), wk, show ((l + 1 : Nat) : Int) + -1 = (l : Int) by omega, w32_id (x := (l : Int)) (by omega) (by omega)]
            exact ih (k + 1) l (by omega) (by omega) (by omega) g
      · rw [if_neg (fun e => c2 e.1.2)] at g
        rw [if_neg c2, wk]; exact ih (k + 1) l (by omega) (by omega) hl g
    · rw [if_neg (fun e => c1 e.1.1)] at g
      rw [if_neg c1, wk]; exact ih (k + 1) l (by omega) (by omega) hl g
theorem q_364n [Inhabited fz_] (hi : 0 ≤ i ∧ i < 12) (h62 : 0 ≤ N 6 62 ∧ N 6 62 ≤ 600) {l : Nat} (hl : (l : Int) < 2147483648) : Ex_ 2 364 [.inr (.inr 6), .inl i, .inl (l : Int)] N [.inl (nthL (frS N (N 239) i) l)] N := fun Qr Qt g => t_364 fun V hV hW => b_364_0 (Tr_mono _) hV hW _ _ _ (by
  have hB : sB i = 2 + 56 * i := rfl
  refine Ex_le (d := 1) (by decide) (q_323 (by omega)) _ _ (ri_i ?_)
  rw [w32_id (x := sB i + 2) (by omega) (by omega)]
  refine ⟨by omega, ?_⟩
  unfold frS at g
  by_cases c : N 239 (sB i + 2) < 0
  · rw [if_pos c] at g
    refine b_364_18 (Tr_mono _) hV hW _ _ _ _ _ _ ?_
    by_cases c2 : 0 < N 6 62
    · rw [if_pos c2, if_pos c]; exact g
    · rw [if_neg c2]; exact g
  · rw [if_neg c] at g
    exact q_18n (by omega) hi rfl (by omega) h62.2 hV hW (N 6 62).toNat 0 l (by omega) (by decide) hl g)
theorem frQ_m [Inhabited fz_] : ∀ (j : Nat) (k q : Int), 0 ≤ k → q ∈ frQ N T st k j → (k ≤ q ∧ q < k + j) ∧ N 192 q = T ∧ N 193 q = 3
  | 0, k, q, _, h => by unfold frQ at h; exact absurd h (by simp)
  | j + 1, k, q, k0, h => by
    unfold frQ at h
    split at h
    · rename_i c
      rcases List.mem_cons.1 h with e | e
      · subst e; exact ⟨by omega, c.1.1, c.1.2⟩
      · obtain ⟨a, b⟩ := frQ_m j (k + 1) q (by omega) e
        exact ⟨by omega, b⟩
    · obtain ⟨a, b⟩ := frQ_m j (k + 1) q (by omega) h
      exact ⟨by omega, b⟩
theorem frQ_t [Inhabited fz_] (h : ∀ r : Nat, r ∈ [192, 193, 194] → N' r = N r) : ∀ (j : Nat) (k : Int), frQ N' T st k j = frQ N T st k j
  | 0, _ => rfl
  | j + 1, k => by unfold frQ; rw [h 192 (by decide), h 193 (by decide), h 194 (by decide), frQ_t h j]
theorem frS_t [Inhabited fz_] {f g : Int → Int} (h : ∀ r : Nat, r ∈ [192, 193, 194] → N' r = N r) (h62 : N' 6 62 = N 6 62) (e1 : g (sB i + 1) = f (sB i + 1)) (e2 : g (sB i + 2) = f (sB i + 2)) : frS N' g i = frS N f i := by
  unfold frS; rw [e1, e2, h62, frQ_t h]
theorem tbN_s [Inhabited fz_] (hq : QSF N N') : tbN N' = tbN N := by
  funext r
  unfold tbN
  split
  · funext i
    split
    · rename_i hi
      exact hq.2 i (fun e => by simp only [tfL, qfL, List.mem_cons, List.not_mem_nil, or_false] at hi e; omega)
    · rfl
  · split
    · exact hq.1 r (fun e => by simp only [sqA, List.mem_cons, List.not_mem_nil, or_false] at e; omega) (fun e => by simp only [quL, List.mem_cons, List.not_mem_nil, or_false] at e; omega)
    · rfl
theorem PDN_b [Inhabited fz_] (h : PDN x1 k n B x3 x4 x5 M N R1 QE) (h0 : ∀ n' y3 y4 y5 M' N', PHA x1 k n' B y3 y4 y5 M' N' R1 → KMV n M N M' N' → n ≤ n' → QE N' → PDN x1 k n' B y3 y4 y5 M' N' R QF) (h1 : ∀ M' N', KMV n M N M' N' → QE N' → N' 6 169 = 1 → QF N') : PDN x1 k n B x3 x4 x5 M N R QF := by
  obtain ⟨c, n', y3, y4, y5, M', N', e1, e2, e3, e4, e5, e6, e7, e8⟩ := h
  rcases e1 with e | e
  · subst e
    rw [if_pos rfl] at e3
    exact PDN_s e3 e7 e6 (h0 n' y3 y4 y5 M' N' (e8 rfl) e7 e6 e2) (fun _ h => h)
  · subst e
    rw [if_neg (by decide)] at e3
    exact PDN_c e3 e4 e5 e6 e7 (h1 M' N' e7 e2 e5.2)
/-- the NONEs of one instance -/
theorem p_391i [Inhabited fz_] (hB : B + 40400 ≤ 2000000000) (hx1 : x1 ≤ 200) (hcn : cnt ≤ 12) (hi : 0 ≤ i ∧ i < cnt) (h7u : Mu 0 7 = cnt) : ∀ (K pre : List Int) (n x3 x4 x5 : Int) (M N : mm_), frS N0 (N0 239) i = pre ++ K → PHA x1 k n B x3 x4 x5 M N (K.map (nmv N0 i) ++ R) → REF k Mu N0 M N → PDN x1 k n B x3 x4 x5 M N R (fun N' => ∀ (V : vv_) (Qr : qr_) (Qt : qt_), Cl_ wd0 (Tr_ wd0 pg0 9) V Qr Qt m_391 → Wk_ V → V 13 [rr 6, ii k, ii cnt, ii (i + 1), none, none, none] [] N' → V 24 [rr 6, ii k, ii cnt, ii i, ii (pre.length : Int), ii 1, none] [] N) := fun K => by
  induction K with
  | nil =>
    intro pre n x3 x4 x5 M N hfr h hf
    obtain ⟨hI, hcut, hk, h0, hm, hl, h7⟩ := id h
    obtain ⟨⟨hV', hP, hA⟩, ⟨hS, hb⟩, hl12, h16, h64⟩ := id hI
    have n2 := hS.2.1
    have k2 : 0 ≤ k ∧ k < 200 := by omega
    have hB' : sB i = 2 + 56 * i := rfl
    obtain ⟨t1, t2, t3, t4⟩ := tr_s (N := N) (k := k)
    have qs := QSF_tr hf.2.2.1 t1
    have ps := ps_b hf.1.2.1
    have efr : frS (trQ N k) (trQ N k 239) i = pre ++ [] := by
      rw [← hfr]
      exact frS_t (fun r hr => qs.1 r (fun e => by revert hr e; simp only [sqA, List.mem_cons, List.not_mem_nil, or_false]; omega) (fun e => by revert hr e; simp only [quL, List.mem_cons, List.not_mem_nil, or_false]; omega)) (qs.2 62 (by decide)) (by rw [t4 _ (by omega) (by omega), hf.2.1 _ (by omega) (by omega)]) (by rw [t4 _ (by omega) (by omega), hf.2.1 _ (by omega) (by omega)])
    have pl : pre.length ≤ 600 := by
      have : (frS N0 (N0 239) i).length ≤ 600 := by
        unfold frS
        split
        · decide
        · have : ∀ (j : Nat) (k : Int), (frQ N0 (N0 239 (sB i + 1)) (N0 239 (sB i + 2)) k j).length ≤ j := fun j => by
            induction j with
            | zero => intro k; unfold frQ; exact Nat.le_refl _
            | succ j ih => intro k; unfold frQ; split; rw [List.length_cons]; have := ih (k + 1); omega; have := ih (k + 1); omega
          have := this (N0 6 62).toNat 0
          omega
      rw [hfr, List.append_nil] at this; exact this
    have q364 := q_364n (N := trQ N k) (i := i) (by omega) (by rw [qs.2 62 (by decide)]; exact ps.1) (l := pre.length) (by omega)
    rw [efr, nthL_a] at q364
    obtain ⟨M1, x41, u, ru, ty, b8, b7⟩ := j_trv hV' hP hA hS hk
    have kq : KMV n M N M (trQ N k) := KMV_q t1 t2 (t3 130 (by decide))
    have I1 := ITV_q hI u (ru 0 0) (ty 0 0) t1 t2 (fun i hi => t3 i (fun c => by revert hi c; simp only [List.mem_cons, List.not_mem_nil, or_false]; omega))
    have h1 : PHA x1 k n B x3 x4 x5 M (trQ N k) R := ⟨I1, ⟨hcut.1, by rw [t3 169 (by decide)]; exact hcut.2⟩, hk, h0, hm, hl, h7⟩
    refine PDN_s (QE := fun N' => N' = trQ N k) RC_rf kq (Int.le_refl _) (PDN_0 h1 rfl) (fun N' hq V Qr Qt hV hW g => b_391_24 (Tr_mono _) hV hW _ _ _ _ _ _ ?_)
    subst hq
    rw [if_neg (by decide), if_pos hcut.2]
    refine fun _ => Ex_le (d := 2) (by decide) (q_385 k2) _ _ (rv_i (Ex_le (d := 2) (by decide) q364 _ _ (ri_i ?_)))
    rw [if_pos (by decide), if_pos rfl]
    refine b_391_24 (Tr_mono _) hV hW _ _ _ _ _ _ ?_
    rw [if_pos rfl, w32_id (x := i + 1) (by omega) (by omega)]; exact g
  | cons q K ih =>
    intro pre n x3 x4 x5 M N hfr h hf
    rw [List.map_cons, List.cons_append] at h
    obtain ⟨hI, hcut, hk, h0, hm, hl, h7⟩ := id h
    obtain ⟨⟨hV', hP, hA⟩, ⟨hS, hb⟩, hl12, h16, h64⟩ := id hI
    have n2 := hS.2.1
    have k2 : 0 ≤ k ∧ k < 200 := by omega
    have hB' : sB i = 2 + 56 * i := rfl
    obtain ⟨t1, t2, t3, t4⟩ := tr_s (N := N) (k := k)
    have qs := QSF_tr hf.2.2.1 t1
    have ps := ps_b hf.1.2.1
    have qr : ∀ r : Nat, r ∈ [192, 193, 194] → trQ N k r = N0 r := fun r hr => qs.1 r (fun e => by revert hr e; simp only [sqA, List.mem_cons, List.not_mem_nil, or_false]; omega) (fun e => by revert hr e; simp only [quL, List.mem_cons, List.not_mem_nil, or_false]; omega)
    have efr : frS (trQ N k) (trQ N k 239) i = pre ++ q :: K := by
      rw [← hfr]
      exact frS_t qr (qs.2 62 (by decide)) (by rw [t4 _ (by omega) (by omega), hf.2.1 _ (by omega) (by omega)]) (by rw [t4 _ (by omega) (by omega), hf.2.1 _ (by omega) (by omega)])
    have pl : pre.length ≤ 600 := by
      have : (frS N0 (N0 239) i).length ≤ 600 := by
        unfold frS
        split
        · decide
        · have : ∀ (j : Nat) (k : Int), (frQ N0 (N0 239 (sB i + 1)) (N0 239 (sB i + 2)) k j).length ≤ j := fun j => by
            induction j with
            | zero => intro k; unfold frQ; exact Nat.le_refl _
            | succ j ih => intro k; unfold frQ; split; rw [List.length_cons]; have := ih (k + 1); omega; have := ih (k + 1); omega
          have := this (N0 6 62).toNat 0
          omega
      rw [hfr, List.length_append] at this; omega
    have mq : (0 ≤ q ∧ q < N0 6 62) ∧ N0 192 q = N0 239 (sB i + 1) ∧ N0 193 q = 3 := by
      have m : q ∈ frS N0 (N0 239) i := by rw [hfr]; simp
      unfold frS at m
      split at m
      · exact absurd m (by simp)
      · obtain ⟨c1, c2⟩ := frQ_m _ _ _ (by decide) m
        exact ⟨by omega, c2⟩
    have q364 := q_364n (N := trQ N k) (i := i) (by omega) (by rw [qs.2 62 (by decide)]; exact ps.1) (l := pre.length) (by omega)
    rw [efr, nthL_a] at q364
    have q364' : Ex_ 2 364 [.inr (.inr 6), .inl i, .inl (pre.length : Int)] (trQ N k) [.inl q] (trQ N k) := q364
    obtain ⟨b3, m1, m2, m3⟩ := PHA_mv h
    obtain ⟨c, n', M', N', N2, y4, y5, d1, d2, d3, d4, d5, d6, d7, d8⟩ := it_mv (AQ := fun N2 => Ex_ 9 365 [.inr (.inr 6), .inl i, .inl q] (trQ N k) [] N2) hI hcut hk hx1 b3 (fun M1 u ru Pz ty b8 b7 => by
      have r1 : RU 1 (p37 M1 0 0) (trQ N k) := ru 0 0
      have e07 := hf.1.1.1.1.2.2
      have hk2 : 0 ≤ i ∧ i < p37 M1 0 0 0 7 := by
        rw [p37_0 (by decide) (by decide), b7, ← hf.2.1 0 (by decide) (by decide)]; omega
      have e8 : p37 M1 0 0 0 8 = M1 0 8 := p37_0 (by decide) (by decide)
      have hin := r1.1.2.2.1 i hk2.1 hk2.2
      have i2 : p37 M1 0 0 11 i = trQ N k 239 (sB i + 1) := hin.1.2.1
      rw [t4 _ (by omega) (by omega), ← hf.2.1 _ (by omega) (by omega)] at i2
      have hrow : ROWk (p37 M1 0 0) (trQ N k) q 0 (xsf (tbN N0) q.toNat) := by
        refine ⟨by rw [qs.2 62 (by decide)]; exact mq.1, ⟨by decide, ?_⟩, by rw [tbN_s qs]; omega⟩
        rw [nsK_e, qr 193 (by decide), mq.2.2, if_neg (by decide)]; decide
      obtain ⟨Me, Ne, xe, qe, re, Ae, fe, c8⟩ := j_36 r1 Pz ty hk2 (by rw [e8]; omega) hrow (by rw [qr 193 (by decide)]; exact mq.2.2) (by rw [qr 192 (by decide), i2]; exact mq.2.1)
      refine ⟨Me, Ne, fun Qr Qt g => t_45 fun V hV hW => b_45_0 (Tr_mono _) hV hW _ _ ⟨by omega, ?_⟩, qe, re, Ae, fe, by rw [e8] at c8; exact c8⟩
      have e38 : p37 M1 0 0 38 = M 38 := by rw [p37_r (by decide)]; exact u.1 38 (by decide)
      have e39 : p37 M1 0 0 39 = M 39 := by rw [p37_r (by decide)]; exact u.1 39 (by decide)
      have e40 : p37 M1 0 0 40 = M 40 := by rw [p37_r (by decide)]; exact u.1 40 (by decide)
      have m1' : M 38 x3 = 3 := m1
      have m2' : M 39 x3 = i := m2
      have m3' : M 40 x3 = xsf (tbN N0) q.toNat := m3
      rw [e38, e39, e40, if_neg (by omega), if_neg (by omega), if_neg (by omega), m2', m3']
      exact ⟨by omega, by omega, xe _ _ (rv_i g)⟩)
    have wl : w32 ((pre.length : Int) + 1) = (((pre ++ [q]).length : Nat) : Int) := by rw [w32_id (by omega) (by omega), List.length_append]; rfl
    have qst : ∀ (V : vv_) (Qr : qr_) (Qt : qt_), Cl_ wd0 (Tr_ wd0 pg0 9) V Qr Qt m_391 → Wk_ V → V 24 [rr 6, ii k, ii cnt, ii i, ii ((pre ++ [q]).length : Int), ii 1, none] [] N' → V 24 [rr 6, ii k, ii cnt, ii i, ii (pre.length : Int), ii 1, none] [] N := fun V Qr Qt hV hW g => b_391_24 (Tr_mono _) hV hW _ _ _ _ _ _ (by
      rw [if_neg (by decide), if_pos hcut.2]
      refine fun _ => Ex_le (d := 2) (by decide) (q_385 k2) _ _ (rv_i (Ex_le (d := 2) (by decide) q364' _ _ (ri_i ?_)))
      rw [if_neg (by omega), if_neg (by decide), wl]
      exact d2 _ _ (rv_i (Ex_le (d := 3) (by decide) d3 _ _ (rv_i g))))
    rcases d1 with e | e
    · subst e
      rw [if_pos rfl] at d4; rw [if_pos rfl] at d4 d5
      exact PDN_s d4 d8 d7 (ih (pre ++ [q]) n' (x3 + 1) y4 y5 M' N' (by rw [hfr, List.append_assoc]; rfl) (PHA_n h d5 d6 d7 d8) (REF_k hf d8 hk)) (fun N'' hq V Qr Qt hV hW g => qst V Qr Qt hV hW (hq V Qr Qt hV hW g))
    · subst e
      rw [if_neg (by decide)] at d4; rw [if_neg (by decide)] at d4 d5
      refine PDN_c d4 d5 d6 d7 d8 (fun V Qr Qt hV hW g => qst V Qr Qt hV hW (b_391_24 (Tr_mono _) hV hW _ _ _ _ _ _ ?_))
      rw [if_neg (by decide), d6.2, if_neg (by decide), w32_id (x := i + 1) (by omega) (by omega)]
      exact fun _ => g
theorem p_391 [Inhabited fz_] (hB : B + 40400 ≤ 2000000000) (hx1 : x1 ≤ 200) (hcn : cnt ≤ 12) (h7u : Mu 0 7 = cnt) : ∀ (j : Nat) (i n x3 x4 x5 : Int) (M N : mm_), PHA x1 k n B x3 x4 x5 M N (frL N0 (N0 239) i j ++ R) → REF k Mu N0 M N → i + j = cnt → 0 ≤ i → PDN x1 k n B x3 x4 x5 M N R (fun N' => ∀ (V : vv_) (Qr : qr_) (Qt : qt_), Cl_ wd0 (Tr_ wd0 pg0 9) V Qr Qt m_391 → Wk_ V → Qr [] N' → V 13 [rr 6, ii k, ii cnt, ii i, none, none, none] [] N) := fun j => by
  induction j with
  | zero =>
    intro i n x3 x4 x5 M N h hf hr r0
    refine PDN_0 h (fun V Qr Qt hV hW g => b_391_13 (Tr_mono _) hV hW _ _ _ _ ?_)
    rw [if_neg (by omega)]; exact g
  | succ j ih =>
    intro i n x3 x4 x5 M N h hf hr r0
    have hk := h.2.2.1
    unfold frL at h
    rw [List.append_assoc] at h
    refine PDN_b (p_391i hB hx1 hcn (by omega) h7u (frS N0 (N0 239) i) [] n x3 x4 x5 M N rfl h hf) (fun n' y3 y4 y5 M' N' h' km hn hq => ?_) (fun M' N' km hq hc V Qr Qt hV hW g => ?_)
    · refine PDN_s RC_rf KMV_rf (Int.le_refl _) (ih (i + 1) n' y3 y4 y5 M' N' h' (REF_k hf km hk) (by omega) (by omega)) (fun N'' hq2 V Qr Qt hV hW g => b_391_13 (Tr_mono _) hV hW _ _ _ _ ?_)
      rw [if_pos (by omega)]
      exact hq V Qr Qt hV hW (hq2 V Qr Qt hV hW g)
    · refine b_391_13 (Tr_mono _) hV hW _ _ _ _ ?_
      rw [if_pos (by omega)]
      exact hq V Qr Qt hV hW (c_391 hc hcn hV hW g j (i + 1) (by omega) (by omega))
/-- all moves of a state -/
theorem p_st [Inhabited fz_] (hB : B + 40400 ≤ 2000000000) (hx1 : x1 ≤ 200) (hcn : 0 ≤ cnt ∧ cnt ≤ 12) (h7u : Mu 0 7 = cnt) {L1 : List (Int × Int × Int)} (hL : STL N0 0 cnt.toNat L1) (h : PHA x1 k n B x3 x4 x5 M N (L1 ++ arL (N0 239) 0 (N0 6 18).toNat ++ tmL (N0 239) 0 (3 * cnt).toNat ++ frL N0 (N0 239) 0 cnt.toNat)) (hf : REF k Mu N0 M N) : PDN x1 k n B x3 x4 x5 M N [] (fun N' => ∃ Na Nb Nc, Ex_ 10 384 [.inr (.inr 6), .inl k] N [] Na ∧ Ex_ 10 389 [.inr (.inr 6), .inl k] Na [] Nb ∧ Ex_ 10 390 [.inr (.inr 6), .inl k] Nb [] Nc ∧ Ex_ 10 391 [.inr (.inr 6), .inl k] Nc [] N') := by
  have hk := h.2.2.1
  have n2 := h.1.2.1.1.2.1
  have h18 := hf.1.1.2.1.1
  have e07 := hf.1.1.1.1.2.2
  have hc0 : ∀ (N : mm_), (∀ i, 0 ≤ i → i < 1104 → N0 239 i = rwk N k i) → rwk N k 0 = cnt := fun N h => by rw [← h 0 (by decide) (by decide)]; omega
  have w1 : w32 (1104 * k) = 1104 * k := w32_id (by omega) (by omega)
  have rd : ∀ (N : mm_), (∀ i, 0 ≤ i → i < 1104 → N0 239 i = rwk N k i) → N 245 (1104 * k) = cnt := fun N h => by
    have := hc0 N h
    rw [rwk_i (by decide) (by decide), Int.add_zero] at this; exact this
  rw [List.append_assoc, List.append_assoc] at h
  refine PDN_b (p_384 (cnt := cnt) hB hx1 cnt.toNat 0 n x3 x4 x5 M N L1 h hf hL (by omega) (by decide) (hc0 N hf.2.1)) (fun n1 y3 y4 y5 Ma Na ha ka na qa => ?_) (fun Ma Na ka qa ca => ?_)
  · have fa := REF_k hf ka hk
    have Ea : Ex_ 10 384 [.inr (.inr 6), .inl k] N [] Na := fun Qr Qt g => t_384 fun V hV hW => b_384_0 (Tr_mono _) hV hW _ _ ⟨by omega, by rw [w1, rd N hf.2.1]; exact qa V Qr Qt hV hW g⟩
    refine PDN_b (p_389 hx1 (N0 6 18).toNat 0 n1 y3 y4 y5 Ma Na ha fa (by omega) (by decide)) (fun n2 z3 z4 z5 Mb Nb hb kb nb qb => ?_) (fun Mb Nb kb qb cb => ?_)
    · have hk1 : 0 ≤ k ∧ k < n1 := by omega
      have fb := REF_k fa kb hk1
      have Eb : Ex_ 10 389 [.inr (.inr 6), .inl k] Na [] Nb := fun Qr Qt g => t_389 fun V hV hW => b_389_0 (Tr_mono _) hV hW _ _ (qb V Qr Qt hV hW g)
      have hk2 : 0 ≤ k ∧ k < n2 := by omega
      refine PDN_b (p_390 hx1 hcn (3 * cnt).toNat 0 n2 z3 z4 z5 Mb Nb hb fb (by omega) (by decide) h7u) (fun n3 v3 v4 v5 Mc Nc hc kc nc qc => ?_) (fun Mc Nc kc qc cc => ?_)
      · have fc := REF_k fb kc hk2
        have Ec : Ex_ 10 390 [.inr (.inr 6), .inl k] Nb [] Nc := fun Qr Qt g => t_390 fun V hV hW => b_390_0 (Tr_mono _) hV hW _ _ ⟨by omega, by
          rw [w1, rd Nb fb.2.1]
          have := qc V Qr Qt hV hW g
          unfold en_390 at this
          exact this⟩
        rw [← List.append_nil (frL N0 (N0 239) 0 cnt.toNat)] at hc
        refine PDN_s RC_rf KMV_rf (Int.le_refl _) (p_391 hB hx1 hcn.2 h7u cnt.toNat 0 n3 v3 v4 v5 Mc Nc hc fc (by omega) (by decide)) (fun N' hq => ⟨Na, Nb, Nc, Ea, Eb, Ec, fun Qr Qt g => t_391 fun V hV hW => b_391_0 (Tr_mono _) hV hW _ _ ⟨by omega, by rw [w1, rd Nc fc.2.1]; exact hq V Qr Qt hV hW g⟩⟩)
      · have fc := REF_k fb kc hk2
        have Ec : Ex_ 10 390 [.inr (.inr 6), .inl k] Nb [] Nc := fun Qr Qt g => t_390 fun V hV hW => b_390_0 (Tr_mono _) hV hW _ _ ⟨by omega, by
          rw [w1, rd Nb fb.2.1]
          have := qc V Qr Qt hV hW g
          unfold en_390 at this
          exact this⟩
        exact ⟨Na, Nb, Nc, Ea, Eb, Ec, fun Qr Qt g => t_391 fun V hV hW => b_391_0 (Tr_mono _) hV hW _ _ ⟨by omega, by rw [w1, rd Nc fc.2.1]; exact c_391 cc hcn.2 hV hW g cnt.toNat 0 (by omega) (by decide)⟩⟩
    · have hk1 : 0 ≤ k ∧ k < n1 := by omega
      have fb := REF_k fa kb hk1
      have Eb : Ex_ 10 389 [.inr (.inr 6), .inl k] Na [] Nb := fun Qr Qt g => t_389 fun V hV hW => b_389_0 (Tr_mono _) hV hW _ _ (qb V Qr Qt hV hW g)
      exact ⟨Na, Nb, Nb, Ea, Eb, fun Qr Qt g => t_390 fun V hV hW => b_390_0 (Tr_mono _) hV hW _ _ ⟨by omega, by rw [w1, rd Nb fb.2.1]; exact c_390 cb hcn.2 hV hW g cnt.toNat 0 (by omega) (by decide)⟩, fun Qr Qt g => t_391 fun V hV hW => b_391_0 (Tr_mono _) hV hW _ _ ⟨by omega, by rw [w1, rd Nb fb.2.1]; exact c_391 cb hcn.2 hV hW g cnt.toNat 0 (by omega) (by decide)⟩⟩
  · have fa := REF_k hf ka hk
    have Ea : Ex_ 10 384 [.inr (.inr 6), .inl k] N [] Na := fun Qr Qt g => t_384 fun V hV hW => b_384_0 (Tr_mono _) hV hW _ _ ⟨by omega, by rw [w1, rd N hf.2.1]; exact qa V Qr Qt hV hW g⟩
    exact ⟨Na, Na, Na, Ea, fun Qr Qt g => t_389 fun V hV hW => b_389_0 (Tr_mono _) hV hW _ _ (c_389 ca hV hW g), fun Qr Qt g => t_390 fun V hV hW => b_390_0 (Tr_mono _) hV hW _ _ ⟨by omega, by rw [w1, rd Na fa.2.1]; exact c_390 ca hcn.2 hV hW g cnt.toNat 0 (by omega) (by decide)⟩, fun Qr Qt g => t_391 fun V hV hW => b_391_0 (Tr_mono _) hV hW _ _ ⟨by omega, by rw [w1, rd Na fa.2.1]; exact c_391 ca hcn.2 hV hW g cnt.toNat 0 (by omega) (by decide)⟩⟩
end PFa
end T412_pf
section T413_ol
/-! the search: all states (X 37 at 156 | Q 380 at 89) -/
def KM0 (n : Int) (M N M' N' : mm_) : Prop := (XSF M M' ∧ QSF N N') ∧ M' 41 = M 41 ∧ N' 246 = N 246 ∧ (∀ j, 0 ≤ j → j < n → rwk N' j = rwk N j) ∧ (M' 0 11 = M 0 11 ∧ N' 6 130 = N 6 130)
def HDS [Inhabited fz_] (x1 n B : Int) (M N : mm_) : Prop := ITV x1 n B (N 6 166) (N 6 167) (N 6 168) M N
section OLa
variable {M N M' N' M1 N1 Mu N0 A : mm_} {a b k n n1 B x1 x3 x4 x5 y3 y4 y5 c w i cnt : Int}
theorem KM0_rf [Inhabited fz_] : KM0 n M N M N := ⟨⟨XSF_rf, QSF_rf⟩, rfl, rfl, fun _ _ _ => rfl, rfl, rfl⟩
theorem KM0_tr [Inhabited fz_] (h : KM0 n M N M1 N1) (g : KM0 n1 M1 N1 M' N') (hn : n ≤ n1) : KM0 n M N M' N' := ⟨⟨XSF_tr h.1.1 g.1.1, QSF_tr h.1.2 g.1.2⟩, g.2.1.trans h.2.1, g.2.2.1.trans h.2.2.1, fun j j0 j1 => (g.2.2.2.1 j j0 (by omega)).trans (h.2.2.2.1 j j0 j1), g.2.2.2.2.1.trans h.2.2.2.2.1, g.2.2.2.2.2.trans h.2.2.2.2.2⟩
theorem KM0_k [Inhabited fz_] (h : KMV n M N M' N') : KM0 n M N M' N' := ⟨h.1, h.2.1.1 41 (by decide), h.2.2.1, h.2.2.2.1, h.2.2.2.2⟩
theorem RVX_c [Inhabited fz_] (h : RVX M N) (h23 : M' 23 = M 23) (h24 : M' 24 = M 24) (hf : ∀ i : Int, i ∈ rfX → i ∉ [7, 8, 37, 38] → M' 0 i = M 0 i) (hq : ∀ r : Nat, r ∈ [172, 173, 174, 239, 240, 241] → N' r = N r) (h6 : ∀ i : Int, i ∈ rfQ → N' 6 i = N 6 i) : RVX M' N' := by
  obtain ⟨Mv, hr, v1, v2⟩ := h
  refine ⟨fun r => if r ∈ [10, 11, 12, 13, 14, 15, 16, 17, 18, 19, 20, 21, 22] then Mv r else if r = 0 then (fun i => if i ∈ [7, 8, 37, 38, 65] then Mv 0 i else M' 0 i) else M' r, RU_cc hr (fun r hr' => ?_) (fun i hi => ?_) hq h6, fun r hr' => ?_, fun i hi => ?_⟩
  · show (if r ∈ [10, 11, 12, 13, 14, 15, 16, 17, 18, 19, 20, 21, 22] then Mv r else if r = 0 then (fun i => if i ∈ [7, 8, 37, 38, 65] then Mv 0 i else M' 0 i) else M' r) = Mv r
    by_cases c : r ∈ [10, 11, 12, 13, 14, 15, 16, 17, 18, 19, 20, 21, 22]
    · rw [if_pos c]
    · rw [if_neg c, if_neg (fun e => by rw [e] at hr'; revert hr'; decide)]
      have : r = 23 ∨ r = 24 := by revert hr' c; simp only [List.mem_cons, List.not_mem_nil, or_false]; omega
      rcases this with e | e
      · rw [e, h23, v1 23 (by decide)]
      · rw [e, h24, v1 24 (by decide)]
  · show (if (0 : Nat) ∈ [10, 11, 12, 13, 14, 15, 16, 17, 18, 19, 20, 21, 22] then Mv 0 else if (0 : Nat) = 0 then (fun i => if i ∈ [7, 8, 37, 38, 65] then Mv 0 i else M' 0 i) else M' 0) i = Mv 0 i
    rw [if_neg (by decide), if_pos rfl]
    by_cases c : i ∈ [7, 8, 37, 38, 65]
    · show (if i ∈ [7, 8, 37, 38, 65] then Mv 0 i else M' 0 i) = _
      rw [if_pos c]
    · show (if i ∈ [7, 8, 37, 38, 65] then Mv 0 i else M' 0 i) = _
      rw [if_neg c, hf i hi (fun e => c (by revert e; simp only [List.mem_cons, List.not_mem_nil, or_false]; omega)), v2 i c]
  · show (if r ∈ [10, 11, 12, 13, 14, 15, 16, 17, 18, 19, 20, 21, 22] then Mv r else if r = 0 then (fun i => if i ∈ [7, 8, 37, 38, 65] then Mv 0 i else M' 0 i) else M' r) = M' r
    rw [if_neg (fun e => hr' (List.mem_cons_of_mem _ e)), if_neg (fun e => hr' (by rw [e]; decide))]
  · show (if (0 : Nat) ∈ [10, 11, 12, 13, 14, 15, 16, 17, 18, 19, 20, 21, 22] then Mv 0 else if (0 : Nat) = 0 then (fun i => if i ∈ [7, 8, 37, 38, 65] then Mv 0 i else M' 0 i) else M' 0) i = M' 0 i
    rw [if_neg (by decide), if_pos rfl]
    show (if i ∈ [7, 8, 37, 38, 65] then Mv 0 i else M' 0 i) = _
    rw [if_neg (fun e => hi (by revert e; simp only [List.mem_cons, List.not_mem_nil, or_false]; omega))]
/-- one state -/
theorem o_1 [Inhabited fz_] (hB : B + 40400 ≤ 2000000000) (hx1 : x1 ≤ 200) (h : HDS x1 n B M N) (hc : CUT M N 0) (hk : 0 ≤ k ∧ k < n) : ∃ c n' M' N', (c = 0 ∨ c = 1) ∧ HDS x1 n' B M' N' ∧ CUT M' N' c ∧ n ≤ n' ∧ KM0 n M N M' N'
    ∧ (c = 0 → RC 10 m_37 156 [rr 0, ii x1, ii k, none, none, none] M 156 [rr 0, ii x1, ii (k + 1), none, none, none] M' ∧ RC 10 m_380 89 [rr 6, ii x1, ii k] N 89 [rr 6, ii x1, ii (k + 1)] N')
    ∧ (c = 1 → (∀ Me, Ex_ 2 41 [.inr (.inr 0), .inl 0] M' [] Me → RC 10 m_37 156 [rr 0, ii x1, ii k, none, none, none] M 387 [rr 0, ii x1, ii 0, none, none, none] Me) ∧ RC 10 m_380 89 [rr 6, ii x1, ii k] N 189 [rr 6, ii x1, ii 0] (up_ N' 6 127 0)) := by
  obtain ⟨⟨hV, hP, hA⟩, ⟨hS, hb⟩, ⟨hl1, hl2⟩, h16, h64⟩ := id h
  have n2 := hS.2.1
  have k2 : 0 ≤ k ∧ k < 200 := by omega
  have e62 : M 0 62 = n := hS.1.1
  have e163 : N 6 163 = n := hS.1.2
  -- X unpacks, finds
  obtain ⟨M1, x41, u, ru, ty, b8, b7⟩ := j_trv hV hP hA hS hk
  have r1 := ru (M1 0 37) (M1 0 38)
  rw [p37_s] at r1
  have t1 := ty (M1 0 37) (M1 0 38)
  generalize hN0 : q37 (wr_ N 239 (ldF (N 239) (rwk N k))) (M1 0 37) (M1 0 38) = N0 at r1 t1
  have s0 : QSF N N0 := by rw [← hN0]; exact QSF_ld
  have p1 : PLr M1 N0 := PLr_s hP (XSF_u u) s0
  have e239 : ∀ i, 0 ≤ i → i < 1104 → N0 239 i = rwk N k i := fun i i0 i1 => by rw [← hN0, q37_r (by decide), wr_same]; unfold ldF; rw [if_pos ⟨i0, i1⟩]
  obtain ⟨A, L1, x43, gm, stl, mvl, ml⟩ := x_43 r1 p1 t1
  have c12 := r1.1.1
  -- Q's counters
  generalize hNz : up_ (up_ (up_ N 6 166 0) 6 167 0) 6 168 0 = Nz
  have zr : ∀ r : Nat, r ≠ 6 → Nz r = N r := fun r c => by rw [← hNz, up_ne c, up_ne c, up_ne c]
  have z0 : ∀ i : Int, i ∉ [166, 167, 168] → Nz 6 i = N 6 i := fun i hi => by
    simp only [List.mem_cons, List.not_mem_nil, or_false, not_or] at hi
    rw [← hNz, upo hi.2.2, upo hi.2.1, upo hi.1]
  have zs : QSF N Nz := by rw [← hNz]; exact QSF_tr (QSF_tr (QSF_up (.inr (by decide)) (fun _ => by decide)) (QSF_up (.inr (by decide)) (fun _ => by decide))) (QSF_up (.inr (by decide)) (fun _ => by decide))
  have zw : rwk Nz k = rwk N k := by unfold rwk; rw [zr 245 (by decide)]
  have axs : XSF M A := XSF_tr (XSF_u u) (XSF_gm gm)
  have ar : ∀ r : Nat, r ∈ [23, 24, 27, 28, 29, 30, 31, 32, 33, 34, 35, 36, 37, 41] → A r = M r := fun r hr => by rw [gm.1 r (fun e => by revert hr e; simp only [List.mem_cons, List.not_mem_nil, or_false]; omega), u.1 r (fun e => by revert hr e; simp only [List.mem_cons, List.not_mem_nil, or_false]; omega)]
  have a0 : ∀ i : Int, i ∈ 11 :: 62 :: 63 :: 64 :: rfX → i ∉ [7, 8] → A 0 i = M 0 i := fun i hi h' => by rw [gm.2 i (fun e => by revert hi e; simp only [rfX, List.mem_cons, List.not_mem_nil, or_false]; omega), u.2 i (fun e => by revert hi h' e; simp only [rfX, List.mem_cons, List.not_mem_nil, or_false]; omega)]
  have IA : ITV x1 n B 0 0 0 A Nz := by
    refine ⟨⟨RVX_c hV (ar 23 (by decide)) (ar 24 (by decide)) (fun i hi h' => a0 i (by revert hi; simp only [List.mem_cons]; intro hi; exact .inr (.inr (.inr (.inr hi)))) (fun e => h' (by revert e; simp only [List.mem_cons, List.not_mem_nil, or_false]; omega))) (fun r hr => zr r (fun c => by rw [c] at hr; revert hr; decide)) (fun i hi => z0 i (fun c => by revert hi c; simp only [rfQ, List.mem_cons, List.not_mem_nil, or_false]; omega)), PLr_s hP axs zs, TYA_c hA (TYT_s zs) (zr 239 (by decide))⟩, ⟨SST_c hS (a0 62 (by decide) (by decide)) (z0 163 (by decide)) (fun r hr k _ _ _ => by rw [ar r (by revert hr; simp only [List.mem_cons, List.not_mem_nil, or_false]; omega)]) (fun r hr => zr r (fun c => by rw [c] at hr; revert hr; decide)) (z0 18 (by decide)) ⟨z0 19 (by decide), z0 17 (by decide)⟩ (fun k k0 k1 => pkL_len (PKB_of hP) (hS.2.2 k k0 k1).1.1), BKT_c hb (fun i _ _ => by rw [ar 29 (by decide)]) (ar 30 (by decide)) (ar 31 (by decide))⟩, ⟨hl1, by rw [z0 165 (by decide)]; exact hl2⟩, ⟨by rw [← hNz, upo (by decide), upo (by decide), up_at], by rw [← hNz, upo (by decide), up_at], by rw [← hNz, up_at]⟩, by rw [a0 64 (by decide) (by decide), z0 164 (by decide)]; exact h64⟩
  have ph : PHA x1 k n B 0 0 0 A Nz (L1 ++ arL (N0 239) 0 (N0 6 18).toNat ++ tmL (N0 239) 0 (3 * M1 0 7).toNat ++ frL N0 (N0 239) 0 (M1 0 7).toNat) := ⟨IA, ⟨by rw [a0 63 (by decide) (by decide)]; exact hc.1, by rw [z0 169 (by decide)]; exact hc.2⟩, hk, by decide, mvl.1, by rw [mvl.2, Int.zero_add], by rw [mvl.2]; omega⟩
  have rf : REF k M1 N0 A Nz := ⟨⟨r1, p1, t1⟩, fun i i0 i1 => by rw [zw]; exact e239 i i0 i1, ⟨fun r h1 h2 => by rw [zs.1 r h1 h2, s0.1 r h1 h2], fun i hi => by rw [zs.2 i hi, s0.2 i hi]⟩, by rw [gm.2 9 (by decide)]⟩
  have pd := p_st hB hx1 (cnt := M1 0 7) ⟨c12.1, c12.2.1⟩ rfl stl ph rf
  obtain ⟨c, n', y3, y4, y5, M', N', d1, ⟨Na, Nb, Nc, q1, q2, q3, q4⟩, d3, d4, d5, d6, d7, d8⟩ := pd
  -- X comes to 341
  have kz : KM0 n M N A Nz := ⟨⟨axs, zs⟩, ar 41 (by decide), zr 246 (by decide), fun j _ _ => by unfold rwk; rw [zr 245 (by decide)], a0 11 (by decide) (by decide), z0 130 (by decide)⟩
  have km : KM0 n M N M' N' := KM0_tr kz (KM0_k d7) (Int.le_refl _)
  have x156 : ∀ (V : vv_) (Qr : qr_) (Qt : qt_), Cl_ wd0 (Tr_ wd0 pg0 10) V Qr Qt m_37 → Wk_ V → V 341 [rr 0, ii x1, ii k, ii y3, ii y4, ii y5] [] M' → V 156 [rr 0, ii x1, ii k, none, none, none] [] M := fun V Qr Qt hV hW g => b_37_156 (Tr_mono _) hV hW _ _ _ (by
    rw [e62, if_pos hk.2, if_pos hc.1]
    refine Ex_le (d := 2) (by decide) x41 _ _ (rv_i (Ex_le (d := 6) (by decide) x43 _ _ (rv_i (d3 V Qr Qt hV hW ?_))))
    rcases d1 with e | e
    · subst e
      rw [if_pos rfl]
      obtain ⟨_, _, _, _, _, hl, _⟩ := d8 rfl
      rw [List.length_nil] at hl
      refine b_37_188 (Tr_mono _) hV hW _ _ _ _ _ _ ?_
      rw [if_neg (by omega)]; exact g
    · subst e
      rw [if_neg (by decide)]; exact g)
  have q89 : ∀ (V : vv_) (Qr : qr_) (Qt : qt_), Cl_ wd0 (Tr_ wd0 pg0 10) V Qr Qt m_380 → Wk_ V → ((bl_ (N' 6 169) → (if N' 6 169 = 0 then (0 ≤ k ∧ k < 200) ∧ (0 ≤ k ∧ k < 200) ∧ (0 ≤ k ∧ k < 200) ∧ V 89 [rr 6, ii x1, ii (w32 (k + 1))] [] (up_ (up_ (up_ N' 250 k (N' 6 166)) 251 k (N' 6 167)) 252 k (N' 6 168)) else V 89 [rr 6, ii x1, ii (w32 (k + 1))] [] N'))) → V 89 [rr 6, ii x1, ii k] [] N := fun V Qr Qt hV hW g => b_380_89 (Tr_mono _) hV hW _ _ _ (by
    rw [e163, if_pos hk.2, if_pos hc.2, hNz]
    exact fun _ => q1 _ _ (rv_i (q2 _ _ (rv_i (q3 _ _ (rv_i (q4 _ _ (rv_i g)))))))
    )
  have wk : w32 (k + 1) = k + 1 := w32_id (by omega) (by omega)
  obtain ⟨⟨hV', hP', hA'⟩, ⟨hS', hb'⟩, ⟨hl1', hl2'⟩, ⟨f3, f4, f5⟩, h64'⟩ := id d4
  rcases d1 with e | e
  · subst e
    obtain ⟨c63, c169⟩ := d5
    generalize hM2 : up_ (up_ (up_ M' 35 k y3) 36 k y4) 37 k y5 = M2
    generalize hN2 : up_ (up_ (up_ N' 250 k y3) 251 k y4) 252 k y5 = N2
    have m2r : ∀ r : Nat, r ∉ [35, 36, 37] → M2 r = M' r := fun r hr => by
      have e : ∀ q : Nat, q ∈ [35, 36, 37] → r ≠ q := fun q hq e => hr (by rw [e]; exact hq)
      rw [← hM2, up_ne (e 37 (by decide)), up_ne (e 36 (by decide)), up_ne (e 35 (by decide))]
    have n2r : ∀ r : Nat, r ∉ [250, 251, 252] → N2 r = N' r := fun r hr => by
      have e : ∀ q : Nat, q ∈ [250, 251, 252] → r ≠ q := fun q hq e => hr (by rw [e]; exact hq)
      rw [← hN2, up_ne (e 252 (by decide)), up_ne (e 251 (by decide)), up_ne (e 250 (by decide))]
    have m35 : ∀ j, M2 35 j = (if j = k then y3 else M' 35 j) ∧ M2 36 j = (if j = k then y4 else M' 36 j) ∧ M2 37 j = (if j = k then y5 else M' 37 j) := fun j => by
      rw [← hM2]
      by_cases c : j = k
      · rw [c, if_pos rfl, if_pos rfl, if_pos rfl]
        exact ⟨by rw [up_ne (by decide), up_ne (by decide), up_at], by rw [up_ne (by decide), up_at], by rw [up_at]⟩
      · rw [if_neg c, if_neg c, if_neg c]
        exact ⟨by rw [up_ne (by decide), up_ne (by decide), upo c], by rw [up_ne (by decide), upo c, up_ne (by decide)], by rw [upo c, up_ne (by decide), up_ne (by decide)]⟩
    have n250 : ∀ j, N2 250 j = (if j = k then y3 else N' 250 j) ∧ N2 251 j = (if j = k then y4 else N' 251 j) ∧ N2 252 j = (if j = k then y5 else N' 252 j) := fun j => by
      rw [← hN2]
      by_cases c : j = k
      · rw [c, if_pos rfl, if_pos rfl, if_pos rfl]
        exact ⟨by rw [up_ne (by decide), up_ne (by decide), up_at], by rw [up_ne (by decide), up_at], by rw [up_at]⟩
      · rw [if_neg c, if_neg c, if_neg c]
        exact ⟨by rw [up_ne (by decide), up_ne (by decide), upo c], by rw [up_ne (by decide), upo c, up_ne (by decide)], by rw [upo c, up_ne (by decide), up_ne (by decide)]⟩
    have xs2 : XSF M' M2 := by rw [← hM2]; exact XSF_tr (XSF_tr (XSF_up (.inl (by decide)) (fun c => absurd c (by decide))) (XSF_up (.inl (by decide)) (fun c => absurd c (by decide)))) (XSF_up (.inl (by decide)) (fun c => absurd c (by decide)))
    have qs2 : QSF N' N2 := by rw [← hN2]; exact QSF_tr (QSF_tr (QSF_up (.inl (by decide)) (fun c => absurd c (by decide))) (QSF_up (.inl (by decide)) (fun c => absurd c (by decide)))) (QSF_up (.inl (by decide)) (fun c => absurd c (by decide)))
    have w2 : ∀ j, rwk N2 j = rwk N' j := fun j => by unfold rwk; rw [n2r 245 (by decide)]
    have S2 : SST M2 N2 n' B := by
      refine ⟨by rw [m2r 0 (by decide), n2r 6 (by decide)]; exact hS'.1, hS'.2.1, fun j j0 j1 => ?_⟩
      obtain ⟨s1, s2⟩ := hS'.2.2 j j0 j1
      refine ⟨SFK_c s1 (w2 j) (by rw [n2r 6 (by decide)]) (by rw [n2r 6 (by decide)]; exact ⟨rfl, rfl⟩) (fun r hr => n2r r (fun c => by revert hr c; simp only [List.mem_cons, List.not_mem_nil, or_false]; omega)) (fun h => by rw [m2r 27 (by decide)]; exact h) (by rw [m2r 28 (by decide)]) (by rw [m2r 29 (by decide)]) (by rw [n2r 253 (by decide)]), ?_⟩
      unfold SEQ at s2 ⊢
      rw [m2r 32 (by decide), m2r 33 (by decide), m2r 34 (by decide), n2r 247 (by decide), n2r 248 (by decide), n2r 249 (by decide), (m35 j).1, (m35 j).2.1, (m35 j).2.2, (n250 j).1, (n250 j).2.1, (n250 j).2.2]
      refine ⟨s2.1, ?_⟩
      by_cases c : j = k
      · rw [if_pos c, if_pos c, if_pos c, if_pos c, if_pos c, if_pos c]; exact ⟨rfl, rfl, rfl⟩
      · rw [if_neg c, if_neg c, if_neg c, if_neg c, if_neg c, if_neg c]; exact s2.2
    refine ⟨0, n', M2, N2, .inl rfl, ⟨⟨RVX_c hV' (m2r 23 (by decide)) (m2r 24 (by decide)) (fun i _ _ => by rw [m2r 0 (by decide)]) (fun r hr => n2r r (fun c => by revert hr c; simp only [List.mem_cons, List.not_mem_nil, or_false]; omega)) (fun i _ => by rw [n2r 6 (by decide)]), PLr_s hP' xs2 qs2, TYA_c hA' (TYT_s qs2) (n2r 239 (by decide))⟩, ⟨S2, BKT_c hb' (fun i _ _ => by rw [m2r 29 (by decide)]) (m2r 30 (by decide)) (m2r 31 (by decide))⟩, ⟨hl1', by rw [n2r 6 (by decide)]; exact hl2'⟩, ⟨rfl, rfl, rfl⟩, by rw [m2r 0 (by decide), n2r 6 (by decide)]; exact h64'⟩, ⟨by rw [m2r 0 (by decide)]; exact c63, by rw [n2r 6 (by decide)]; exact c169⟩, d6, KM0_tr km ⟨⟨xs2, qs2⟩, m2r 41 (by decide), n2r 246 (by decide), fun j _ _ => w2 j, by rw [m2r 0 (by decide)], by rw [n2r 6 (by decide)]⟩ (Int.le_refl _), fun _ => ⟨fun V Qr Qt hV hW g => x156 V Qr Qt hV hW (b_37_341 (Tr_mono _) hV hW _ _ _ _ _ _ ?_), fun V Qr Qt hV hW g => q89 V Qr Qt hV hW ?_⟩, fun e => absurd e (by decide)⟩
    · rw [if_pos c63, wk, hM2]; exact ⟨k2, k2, k2, g⟩
    · rw [if_pos c169, f3, f4, f5, wk, hN2]; exact fun _ => ⟨k2, k2, k2, g⟩
  · subst e
    obtain ⟨c63, c169⟩ := d5
    refine ⟨1, n', M', N', .inr rfl, ⟨⟨hV', hP', hA'⟩, ⟨hS', hb'⟩, ⟨hl1', hl2'⟩, ⟨rfl, rfl, rfl⟩, h64'⟩, ⟨c63, c169⟩, d6, km, fun e => absurd e (by decide), fun _ => ⟨fun Me xe V Qr Qt hV hW g => x156 V Qr Qt hV hW (b_37_341 (Tr_mono _) hV hW _ _ _ _ _ _ ?_), fun V Qr Qt hV hW g => q89 V Qr Qt hV hW ?_⟩⟩
    · rw [if_neg (by omega)]
      exact Ex_le (d := 2) (by decide) xe _ _ (rv_i g)
    · rw [if_neg (by omega), wk]
      refine fun _ => b_380_89 (Tr_mono _) hV hW _ _ _ ?_
      by_cases ce : k + 1 < N' 6 163
      · rw [if_pos ce, if_neg (by omega)]; exact fun _ => ⟨.inl rfl, g⟩
      · rw [if_neg ce]; exact ⟨.inl rfl, g⟩
/-- all states -/
theorem o_156 [Inhabited fz_] (hB : B + 40400 ≤ 2000000000) (hx1 : x1 ≤ 200) : ∀ (j : Nat) (k n : Int) (M N : mm_), k + j = x1 → 0 ≤ k → k ≤ n → HDS x1 n B M N → CUT M N 0 → ∃ c n' Mf Nf, (c = 0 ∨ c = 1) ∧ HDS x1 n' B Mf Nf ∧ CUT Mf Nf c ∧ n ≤ n' ∧ KM0 n M N Mf Nf ∧ (∀ Me, Ex_ 2 41 [.inr (.inr 0), .inl 0] Mf [] Me → RC 10 m_37 156 [rr 0, ii x1, ii k, none, none, none] M 387 [rr 0, ii x1, ii 0, none, none, none] Me) ∧ RC 10 m_380 89 [rr 6, ii x1, ii k] N 189 [rr 6, ii x1, ii 0] (up_ Nf 6 127 0) := fun j => by
  have endq : ∀ (k n : Int) (M N : mm_), HDS x1 n B M N → CUT M N 0 → ¬ k < n → ∃ c n' Mf Nf, (c = 0 ∨ c = 1) ∧ HDS x1 n' B Mf Nf ∧ CUT Mf Nf c ∧ n ≤ n' ∧ KM0 n M N Mf Nf ∧ (∀ Me, Ex_ 2 41 [.inr (.inr 0), .inl 0] Mf [] Me → RC 10 m_37 156 [rr 0, ii x1, ii k, none, none, none] M 387 [rr 0, ii x1, ii 0, none, none, none] Me) ∧ RC 10 m_380 89 [rr 6, ii x1, ii k] N 189 [rr 6, ii x1, ii 0] (up_ Nf 6 127 0) := fun k n M N h hc hk => by
    have e62 : M 0 62 = n := h.2.1.1.1.1
    have e163 : N 6 163 = n := h.2.1.1.1.2
    refine ⟨0, n, M, N, .inl rfl, h, hc, Int.le_refl _, KM0_rf, fun Me xe V Qr Qt hV hW g => b_37_156 (Tr_mono _) hV hW _ _ _ ?_, fun V Qr Qt hV hW g => b_380_89 (Tr_mono _) hV hW _ _ _ ?_⟩
    · rw [e62, if_neg hk]; exact Ex_le (d := 2) (by decide) xe _ _ (rv_i g)
    · rw [e163, if_neg hk]; exact ⟨.inl rfl, g⟩
  induction j with
  | zero =>
    intro k n M N hj k0 kn h hc
    exact endq k n M N h hc (by have := h.2.2.1.1; omega)
  | succ j ih =>
    intro k n M N hj k0 kn h hc
    by_cases ck : k < n
    · obtain ⟨c, n', M', N', d1, d2, d3, d4, d5, d6, d7⟩ := o_1 hB hx1 h hc ⟨k0, ck⟩
      rcases d1 with e | e
      · subst e
        obtain ⟨a1, a2⟩ := d6 rfl
        obtain ⟨c', n'', Mf, Nf, g1, g2, g3, g4, g5, g6, g7⟩ := ih (k + 1) n' M' N' (by omega) (by omega) (by omega) d2 d3
        exact ⟨c', n'', Mf, Nf, g1, g2, g3, by omega, KM0_tr d5 g5 d4, fun Me xe => RC_tr a1 (g6 Me xe), RC_tr a2 g7⟩
      · subst e
        obtain ⟨a1, a2⟩ := d7 rfl
        exact ⟨1, n', M', N', .inr rfl, d2, d3, d4, d5, a1, a2⟩
    · exact endq k n M N h hc ck
end OLa
end T413_ol
section T414_sv
/-! the search: times set aside (Q 381), times set to now (Q 396) -/
noncomputable def svF (f : Int → Int) (S : Int → Prop) (v : Int) : Int → Int := fun i => @ite _ (S i) (Classical.propDecidable _) v (f i)
noncomputable def svM (N : mm_) (S : Int → Prop) (v : Int) : mm_ := wr_ N 239 (svF (N 239) S v)
/-- places of times: routes ahead of r, and of r the first q -/
def RSI (N : mm_) (r q j : Int) : Prop := (∃ r' q', (0 ≤ r' ∧ r' < r) ∧ (0 ≤ q' ∧ q' < N 239 (sR r')) ∧ j = sR r' + 1 + 7 * q' + 3) ∨ ∃ q', (0 ≤ q' ∧ q' < q) ∧ j = sR r + 1 + 7 * q' + 3
/-- places of clocks that are P -/
def CKI (N : mm_) (P : Int → Prop) (k t j : Int) : Prop := (∃ k' t', (0 ≤ k' ∧ k' < k) ∧ (0 ≤ t' ∧ t' < 3) ∧ P (N 239 j) ∧ j = sB k' + 22 + t') ∨ ∃ t', (0 ≤ t' ∧ t' < t) ∧ P (N 239 j) ∧ j = sB k + 22 + t'
def FSI (N : mm_) (P : Int → Prop) (j : Int) : Prop := RSI N (N 6 18) 0 j ∨ CKI N P (N 239 0) 0 j
section SVa
variable {N : mm_} {f : Int → Int} {S S' : Int → Prop} {P : Int → Prop} {i v r q k t j x1 : Int}
theorem svF_in [Inhabited fz_] (h : S i) : svF f S v i = v := by unfold svF; rw [if_pos h]
theorem svF_out [Inhabited fz_] (h : ¬ S i) : svF f S v i = f i := by unfold svF; rw [if_neg h]
theorem svM_c [Inhabited fz_] (h : ∀ j, S j ↔ S' j) : svM N S v = svM N S' v := by
  have : S = S' := by funext j; exact propext (h j)
  rw [this]
theorem svM_0 [Inhabited fz_] (h : ∀ j, ¬ S j) : svM N S v = N := by
  unfold svM
  have : svF (N 239) S v = N 239 := by funext j; exact svF_out (h j)
  rw [this, wr_id]
theorem svM_r [Inhabited fz_] {r : Nat} (h : r ≠ 239) : svM N S v r = N r := wr_ne h
theorem svM_i [Inhabited fz_] : svM N S v 239 i = svF (N 239) S v i := by unfold svM; rw [wr_same]
theorem svM_up [Inhabited fz_] : up_ (svM N S v) 239 i v = svM N (fun j => S j ∨ j = i) v := by
  unfold svM
  rw [up_wr]
  congr 1
  funext j
  unfold su_
  by_cases c : j = i
  · rw [if_pos c, svF_in (.inr c)]
  · rw [if_neg c]
    by_cases d : S j
    · rw [svF_in d, svF_in (.inl d)]
    · rw [svF_out d, svF_out (fun e => e.elim d c)]
theorem RSI_z [Inhabited fz_] (h : ∀ r, 0 ≤ r → r < N 6 18 → 0 ≤ N 239 (sR r) ∧ N 239 (sR r) ≤ 6) (h18 : N 6 18 ≤ 10) (hr : 0 ≤ r ∧ r ≤ N 6 18) (hq : q ≤ 6) (hj : RSI N r q j) : 674 ≤ j ∧ (j - 674) % 43 ≠ 0 := by
  rcases hj with ⟨r', q', a, b, c⟩ | ⟨q', a, c⟩
  · have := h r' a.1 (by omega)
    unfold sR at c; omega
  · unfold sR at c; omega
theorem RSI_s [Inhabited fz_] (h0 : 0 ≤ q) : RSI N r (q + 1) j ↔ (RSI N r q j ∨ j = sR r + 1 + 7 * q + 3) := by
  unfold RSI
  constructor
  · rintro (h | ⟨q', a, c⟩)
    · exact .inl (.inl h)
    · by_cases e : q' = q
      · rw [e] at c; exact .inr c
      · exact .inl (.inr ⟨q', by omega, c⟩)
  · rintro ((h | ⟨q', a, c⟩) | c)
    · exact .inl h
    · exact .inr ⟨q', by omega, c⟩
    · exact .inr ⟨q, by omega, c⟩
theorem RSI_n [Inhabited fz_] (h0 : 0 ≤ r) : RSI N r (N 239 (sR r)) j ↔ RSI N (r + 1) 0 j := by
  unfold RSI
  constructor
  · rintro (⟨r', q', a, b, c⟩ | ⟨q', a, c⟩)
    · exact .inl ⟨r', q', by omega, b, c⟩
    · exact .inl ⟨r, q', by omega, a, c⟩
  · rintro (⟨r', q', a, b, c⟩ | ⟨q', a, c⟩)
    · by_cases e : r' = r
      · rw [e] at b c; exact .inr ⟨q', b, c⟩
      · exact .inl ⟨r', q', by omega, b, c⟩
    · omega
theorem CKI_s [Inhabited fz_] (h0 : 0 ≤ t) : CKI N P k (t + 1) j ↔ (CKI N P k t j ∨ (P (N 239 j) ∧ j = sB k + 22 + t)) := by
  unfold CKI
  constructor
  · rintro (h | ⟨t', a, p, c⟩)
    · exact .inl (.inl h)
    · by_cases e : t' = t
      · rw [e] at c; exact .inr ⟨p, c⟩
      · exact .inl (.inr ⟨t', by omega, p, c⟩)
  · rintro ((h | ⟨t', a, p, c⟩) | ⟨p, c⟩)
    · exact .inl h
    · exact .inr ⟨t', by omega, p, c⟩
    · exact .inr ⟨t, by omega, p, c⟩
theorem CKI_n [Inhabited fz_] (h0 : 0 ≤ k) : CKI N P k 3 j ↔ CKI N P (k + 1) 0 j := by
  unfold CKI
  constructor
  · rintro (⟨r', q', a, b, c⟩ | ⟨q', a, c⟩)
    · exact .inl ⟨r', q', by omega, b, c⟩
    · exact .inl ⟨k, q', by omega, a, c⟩
  · rintro (⟨r', q', a, b, p, c⟩ | ⟨q', a, c⟩)
    · by_cases e : r' = k
      · rw [e] at c; exact .inr ⟨q', b, p, c⟩
      · exact .inl ⟨r', q', by omega, b, p, c⟩
    · omega
theorem CKI_z [Inhabited fz_] (hk : 0 ≤ k ∧ k ≤ 12) (ht : 0 ≤ t ∧ t ≤ 3) (hj : CKI N P k t j) : 24 ≤ j ∧ (j - 2) % 56 < 25 ∧ 22 ≤ (j - 2) % 56 ∧ (j < sB k + 22 + t) := by
  rcases hj with ⟨k', t', a, b, p, c⟩ | ⟨t', a, p, c⟩
  · unfold sB at *; omega
  · unfold sB at *; omega

/-! 381 -/
theorem t_381a [Inhabited fz_] (hro : ∀ r, 0 ≤ r → r < N 6 18 → 0 ≤ N 239 (sR r) ∧ N 239 (sR r) ≤ 6) (h18 : 0 ≤ N 6 18 ∧ N 6 18 ≤ 10) (hr : 0 ≤ r ∧ r < N 6 18) : ∀ (n : Nat) (q : Int), q + n = N 239 (sR r) → 0 ≤ q → RC 1 m_381 12 [rr 6, ii r, ii q] (svM N (RSI N r q) 0) 2 [rr 6, ii (r + 1), none] (svM N (RSI N (r + 1) 0) 0) := fun n => by
  have hc := hro r hr.1 hr.2
  have hR : sR r = 674 + 43 * r := rfl
  have rd : ∀ q, q ≤ 6 → svM N (RSI N r q) 0 239 (sR r) = N 239 (sR r) := fun q hq => by rw [svM_i, svF_out (fun e => by have := RSI_z hro h18.2 (by omega) hq e; omega)]
  induction n with
  | zero =>
    intro q hq q0 V Qr Qt hV hW g
    refine b_381_12 (Tr_mono _) hV hW _ _ _ (q_327 (by omega) _ _ (ri_i ⟨by omega, ?_⟩))
    rw [rd q (by omega), if_neg (by omega), w32_id (x := r + 1) (by omega) (by omega)]
    have e : q = N 239 (sR r) := by omega
    rw [e, svM_c (fun j => RSI_n hr.1)]; exact g
  | succ n ih =>
    intro q hq q0
    refine RC_tr (fun V Qr Qt hV hW g => ?_) (ih (q + 1) (by omega) (by omega))
    refine b_381_12 (Tr_mono _) hV hW _ _ _ (q_327 (by omega) _ _ (ri_i ⟨by omega, ?_⟩))
    rw [rd q (by omega), if_pos (by omega)]
    refine q_327 (by omega) _ _ (ri_i ?_)
    rw [w32_id (x := sR r + 1) (by omega) (by omega), w32_id (x := 7 * q) (by omega) (by omega), w32_id (x := sR r + 1 + 7 * q) (by omega) (by omega), w32_id (x := sR r + 1 + 7 * q + 3) (by omega) (by omega), w32_id (x := q + 1) (by omega) (by omega)]
    skip
    rw [svM_up, svM_c (fun j => (RSI_s q0).symm)]
    exact ⟨by omega, g⟩
theorem t_381b [Inhabited fz_] (hro : ∀ r, 0 ≤ r → r < N 6 18 → 0 ≤ N 239 (sR r) ∧ N 239 (sR r) ≤ 6) (h18 : 0 ≤ N 6 18 ∧ N 6 18 ≤ 10) : ∀ (n : Nat) (r : Int), r + n = N 6 18 → 0 ≤ r → RC 1 m_381 2 [rr 6, ii r, none] (svM N (RSI N r 0) 0) 58 [rr 6, ii 0, none] (svM N (RSI N (N 6 18) 0) 0) := fun n => by
  induction n with
  | zero =>
    intro r hr r0 V Qr Qt hV hW g
    refine b_381_2 (Tr_mono _) hV hW _ _ ?_
    rw [svM_r (by decide), if_neg (by omega), show r = N 6 18 by omega]; exact g
  | succ n ih =>
    intro r hr r0
    have hc := hro r r0 (by omega)
    refine RC_tr (RC_tr (fun V Qr Qt hV hW g => b_381_2 (Tr_mono _) hV hW _ _ ?_) (t_381a hro h18 ⟨r0, by omega⟩ (N 239 (sR r)).toNat 0 (by omega) (by decide))) (ih (r + 1) (by omega) (by omega))
    rw [svM_r (by decide), if_pos (by omega)]; exact g
theorem t_381c [Inhabited fz_] (hn : 0 ≤ N 239 0 ∧ N 239 0 ≤ 12) (hro : ∀ r, 0 ≤ r → r < N 6 18 → 0 ≤ N 239 (sR r) ∧ N 239 (sR r) ≤ 6) (h18 : 0 ≤ N 6 18 ∧ N 6 18 ≤ 10) (hk : 0 ≤ k ∧ k < N 239 0) : ∀ (n : Nat) (t : Int), t + n = 3 → 0 ≤ t → RC 1 m_381 70 [rr 6, ii k, ii t] (svM N (fun j => RSI N (N 6 18) 0 j ∨ CKI N (fun c => 0 < c) k t j) 0) 58 [rr 6, ii (k + 1), none] (svM N (fun j => RSI N (N 6 18) 0 j ∨ CKI N (fun c => 0 < c) (k + 1) 0 j) 0) := fun n => by
  have hB : sB k = 2 + 56 * k := rfl
  induction n with
  | zero =>
    intro t ht t0 V Qr Qt hV hW g
    have e : t = 3 := by omega
    subst e
    refine b_381_70 (Tr_mono _) hV hW _ _ _ ?_
    rw [if_neg (by omega), w32_id (x := k + 1) (by omega) (by omega), svM_c (fun j => or_congr Iff.rfl (CKI_n hk.1))]; exact g
  | succ n ih =>
    intro t ht t0
    have rd : svM N (fun j => RSI N (N 6 18) 0 j ∨ CKI N (fun c => 0 < c) k t j) 0 239 (sB k + 22 + t) = N 239 (sB k + 22 + t) := by
      rw [svM_i, svF_out (fun e => ?_)]
      rcases e with e | e
      · have := RSI_z hro h18.2 (by omega) (by decide) e; omega
      · have := CKI_z (by omega) (by omega) e; omega
    refine RC_tr (fun V Qr Qt hV hW g => ?_) (ih (t + 1) (by omega) (by omega))
    refine b_381_70 (Tr_mono _) hV hW _ _ _ ?_
    rw [if_pos (by omega)]
    refine q_323 (by omega) _ _ (ri_i ?_)
    rw [w32_id (x := sB k + 22) (by omega) (by omega), w32_id (x := sB k + 22 + t) (by omega) (by omega), w32_id (x := t + 1) (by omega) (by omega), rd]
    refine ⟨by omega, ?_⟩
    by_cases c : N 239 (sB k + 22 + t) ≤ 0
    · rw [if_pos c, svM_c (S' := fun j => RSI N (N 6 18) 0 j ∨ CKI N (fun c => 0 < c) k (t + 1) j) (fun j => ?_)]
      · exact g
      · refine or_congr Iff.rfl ⟨fun h => (CKI_s t0).2 (.inl h), fun h => ?_⟩
        rcases (CKI_s t0).1 h with h | ⟨p, e⟩
        · exact h
        · rw [e] at p; exact absurd p (by show ¬ _; omega)
    · rw [if_neg c]
      refine q_323 (by omega) _ _ (ri_i ?_)
      rw [w32_id (x := sB k + 22) (by omega) (by omega), w32_id (x := sB k + 22 + t) (by omega) (by omega)]
      skip
      rw [svM_up, svM_c (S' := fun j => RSI N (N 6 18) 0 j ∨ CKI N (fun c => 0 < c) k (t + 1) j) (fun j => ?_)]
      · exact ⟨by omega, g⟩
      · rw [CKI_s t0, or_assoc]
        refine or_congr Iff.rfl (or_congr Iff.rfl ⟨fun e => ⟨by rw [e]; show _; omega, e⟩, fun h => h.2⟩)
theorem t_381d [Inhabited fz_] (hn : 0 ≤ N 239 0 ∧ N 239 0 ≤ 12) (hro : ∀ r, 0 ≤ r → r < N 6 18 → 0 ≤ N 239 (sR r) ∧ N 239 (sR r) ≤ 6) (h18 : 0 ≤ N 6 18 ∧ N 6 18 ≤ 10) : ∀ (n : Nat) (k : Int), k + n = N 239 0 → 0 ≤ k → ∀ (V : vv_) (Qr : qr_) (Qt : qt_), Cl_ wd0 (Tr_ wd0 pg0 1) V Qr Qt m_381 → Wk_ V → Qr [] (svM N (FSI N (fun c => 0 < c)) 0) → V 58 [rr 6, ii k, none] [] (svM N (fun j => RSI N (N 6 18) 0 j ∨ CKI N (fun c => 0 < c) k 0 j) 0) := fun n => by
  have rd : ∀ k, 0 ≤ k ∧ k ≤ 12 → svM N (fun j => RSI N (N 6 18) 0 j ∨ CKI N (fun c => 0 < c) k 0 j) 0 239 0 = N 239 0 := fun k hk => by
    rw [svM_i, svF_out (fun e => ?_)]
    rcases e with e | e
    · have := RSI_z hro h18.2 (by omega) (by decide) e; omega
    · have := CKI_z hk (by decide) e; omega
  induction n with
  | zero =>
    intro k hk k0 V Qr Qt hV hW g
    refine b_381_58 (Tr_mono _) hV hW _ _ ⟨by decide, ?_⟩
    rw [rd k (by omega), if_neg (by omega), show k = N 239 0 by omega]; exact g
  | succ n ih =>
    intro k hk k0 V Qr Qt hV hW g
    refine b_381_58 (Tr_mono _) hV hW _ _ ⟨by decide, ?_⟩
    rw [rd k (by omega), if_pos (by omega)]
    exact t_381c hn hro h18 ⟨k0, by omega⟩ 3 0 (by decide) (by decide) V Qr Qt hV hW (ih (k + 1) (by omega) (by omega) V Qr Qt hV hW g)

/-! 396 -/
theorem t_396a [Inhabited fz_] (hro : ∀ r, 0 ≤ r → r < N 6 18 → 0 ≤ N 239 (sR r) ∧ N 239 (sR r) ≤ 6) (h18 : 0 ≤ N 6 18 ∧ N 6 18 ≤ 10) (hv : N 6 128 = v) (hr : 0 ≤ r ∧ r < N 6 18) : ∀ (n : Nat) (q : Int), q + n = N 239 (sR r) → 0 ≤ q → RC 1 m_396 40 [rr 6, ii x1, ii r, ii q] (svM N (RSI N r q) v) 30 [rr 6, ii x1, ii (r + 1), none] (svM N (RSI N (r + 1) 0) v) := fun n => by
  have hc := hro r hr.1 hr.2
  have hR : sR r = 674 + 43 * r := rfl
  have rd : ∀ q, q ≤ 6 → svM N (RSI N r q) v 239 (sR r) = N 239 (sR r) := fun q hq => by rw [svM_i, svF_out (fun e => by have := RSI_z hro h18.2 (by omega) hq e; omega)]
  induction n with
  | zero =>
    intro q hq q0 V Qr Qt hV hW g
    refine b_396_40 (Tr_mono _) hV hW _ _ _ _ (q_327 (by omega) _ _ (ri_i ⟨by omega, ?_⟩))
    rw [rd q (by omega), if_neg (by omega), w32_id (x := r + 1) (by omega) (by omega)]
    have e : q = N 239 (sR r) := by omega
    rw [e, svM_c (fun j => RSI_n hr.1)]; exact g
  | succ n ih =>
    intro q hq q0
    refine RC_tr (fun V Qr Qt hV hW g => ?_) (ih (q + 1) (by omega) (by omega))
    refine b_396_40 (Tr_mono _) hV hW _ _ _ _ (q_327 (by omega) _ _ (ri_i ⟨by omega, ?_⟩))
    rw [rd q (by omega), if_pos (by omega)]
    refine q_327 (by omega) _ _ (ri_i ?_)
    rw [w32_id (x := sR r + 1) (by omega) (by omega), w32_id (x := 7 * q) (by omega) (by omega), w32_id (x := sR r + 1 + 7 * q) (by omega) (by omega), w32_id (x := sR r + 1 + 7 * q + 3) (by omega) (by omega), w32_id (x := q + 1) (by omega) (by omega)]
    rw [show svM N (RSI N r q) v 6 128 = v by rw [svM_r (by decide)]; exact hv]
    rw [svM_up, svM_c (fun j => (RSI_s q0).symm)]
    exact ⟨by omega, g⟩
theorem t_396b [Inhabited fz_] (hro : ∀ r, 0 ≤ r → r < N 6 18 → 0 ≤ N 239 (sR r) ∧ N 239 (sR r) ≤ 6) (h18 : 0 ≤ N 6 18 ∧ N 6 18 ≤ 10) (hv : N 6 128 = v) : ∀ (n : Nat) (r : Int), r + n = N 6 18 → 0 ≤ r → RC 1 m_396 30 [rr 6, ii x1, ii r, none] (svM N (RSI N r 0) v) 89 [rr 6, ii x1, ii 0, none] (svM N (RSI N (N 6 18) 0) v) := fun n => by
  induction n with
  | zero =>
    intro r hr r0 V Qr Qt hV hW g
    refine b_396_30 (Tr_mono _) hV hW _ _ _ ?_
    rw [svM_r (by decide), if_neg (by omega), show r = N 6 18 by omega]; exact g
  | succ n ih =>
    intro r hr r0
    have hc := hro r r0 (by omega)
    refine RC_tr (RC_tr (fun V Qr Qt hV hW g => b_396_30 (Tr_mono _) hV hW _ _ _ ?_) (t_396a hro h18 hv ⟨r0, by omega⟩ (N 239 (sR r)).toNat 0 (by omega) (by decide))) (ih (r + 1) (by omega) (by omega))
    rw [svM_r (by decide), if_pos (by omega)]; exact g
theorem t_396c [Inhabited fz_] (hn : 0 ≤ N 239 0 ∧ N 239 0 ≤ 12) (hro : ∀ r, 0 ≤ r → r < N 6 18 → 0 ≤ N 239 (sR r) ∧ N 239 (sR r) ≤ 6) (h18 : 0 ≤ N 6 18 ∧ N 6 18 ≤ 10) (hv : N 6 128 = v) (hk : 0 ≤ k ∧ k < N 239 0) : ∀ (n : Nat) (t : Int), t + n = 3 → 0 ≤ t → RC 1 m_396 101 [rr 6, ii x1, ii k, ii t] (svM N (fun j => RSI N (N 6 18) 0 j ∨ CKI N (fun c => 0 ≤ c) k t j) v) 89 [rr 6, ii x1, ii (k + 1), none] (svM N (fun j => RSI N (N 6 18) 0 j ∨ CKI N (fun c => 0 ≤ c) (k + 1) 0 j) v) := fun n => by
  have hB : sB k = 2 + 56 * k := rfl
  induction n with
  | zero =>
    intro t ht t0 V Qr Qt hV hW g
    have e : t = 3 := by omega
    subst e
    refine b_396_101 (Tr_mono _) hV hW _ _ _ _ ?_
    rw [if_neg (by omega), w32_id (x := k + 1) (by omega) (by omega), svM_c (fun j => or_congr Iff.rfl (CKI_n hk.1))]; exact g
  | succ n ih =>
    intro t ht t0
    have rd : svM N (fun j => RSI N (N 6 18) 0 j ∨ CKI N (fun c => 0 ≤ c) k t j) v 239 (sB k + 22 + t) = N 239 (sB k + 22 + t) := by
      rw [svM_i, svF_out (fun e => ?_)]
      rcases e with e | e
      · have := RSI_z hro h18.2 (by omega) (by decide) e; omega
      · have := CKI_z (by omega) (by omega) e; omega
    refine RC_tr (fun V Qr Qt hV hW g => ?_) (ih (t + 1) (by omega) (by omega))
    refine b_396_101 (Tr_mono _) hV hW _ _ _ _ ?_
    rw [if_pos (by omega)]
    refine q_323 (by omega) _ _ (ri_i ?_)
    rw [w32_id (x := sB k + 22) (by omega) (by omega), w32_id (x := sB k + 22 + t) (by omega) (by omega), w32_id (x := t + 1) (by omega) (by omega), rd]
    refine ⟨by omega, ?_⟩
    by_cases c : N 239 (sB k + 22 + t) < 0
    · rw [if_pos c, svM_c (S' := fun j => RSI N (N 6 18) 0 j ∨ CKI N (fun c => 0 ≤ c) k (t + 1) j) (fun j => ?_)]
      · exact g
      · refine or_congr Iff.rfl ⟨fun h => (CKI_s t0).2 (.inl h), fun h => ?_⟩
        rcases (CKI_s t0).1 h with h | ⟨p, e⟩
        · exact h
        · rw [e] at p; exact absurd p (by show ¬ _; omega)
    · rw [if_neg c]
      refine q_323 (by omega) _ _ (ri_i ?_)
      rw [w32_id (x := sB k + 22) (by omega) (by omega), w32_id (x := sB k + 22 + t) (by omega) (by omega)]
      rw [show svM N (fun j => RSI N (N 6 18) 0 j ∨ CKI N (fun c => 0 ≤ c) k t j) v 6 128 = v by rw [svM_r (by decide)]; exact hv]
      rw [svM_up, svM_c (S' := fun j => RSI N (N 6 18) 0 j ∨ CKI N (fun c => 0 ≤ c) k (t + 1) j) (fun j => ?_)]
      · exact ⟨by omega, g⟩
      · rw [CKI_s t0, or_assoc]
        refine or_congr Iff.rfl (or_congr Iff.rfl ⟨fun e => ⟨by rw [e]; show _; omega, e⟩, fun h => h.2⟩)
theorem t_396d [Inhabited fz_] (hn : 0 ≤ N 239 0 ∧ N 239 0 ≤ 12) (hro : ∀ r, 0 ≤ r → r < N 6 18 → 0 ≤ N 239 (sR r) ∧ N 239 (sR r) ≤ 6) (h18 : 0 ≤ N 6 18 ∧ N 6 18 ≤ 10) (hv : N 6 128 = v) : ∀ (n : Nat) (k : Int), k + n = N 239 0 → 0 ≤ k → ∀ (V : vv_) (Qr : qr_) (Qt : qt_), Cl_ wd0 (Tr_ wd0 pg0 1) V Qr Qt m_396 → Wk_ V → Qr [.inl 1] (up_ (svM N (FSI N (fun c => 0 ≤ c)) v) 6 130 0) → V 89 [rr 6, ii x1, ii k, none] [] (svM N (fun j => RSI N (N 6 18) 0 j ∨ CKI N (fun c => 0 ≤ c) k 0 j) v) := fun n => by
  have rd : ∀ k, 0 ≤ k ∧ k ≤ 12 → svM N (fun j => RSI N (N 6 18) 0 j ∨ CKI N (fun c => 0 ≤ c) k 0 j) v 239 0 = N 239 0 := fun k hk => by
    rw [svM_i, svF_out (fun e => ?_)]
    rcases e with e | e
    · have := RSI_z hro h18.2 (by omega) (by decide) e; omega
    · have := CKI_z hk (by decide) e; omega
  induction n with
  | zero =>
    intro k hk k0 V Qr Qt hV hW g
    refine b_396_89 (Tr_mono _) hV hW _ _ _ ⟨by decide, ?_⟩
    rw [rd k (by omega), if_neg (by omega), show k = N 239 0 by omega]; exact g
  | succ n ih =>
    intro k hk k0 V Qr Qt hV hW g
    refine b_396_89 (Tr_mono _) hV hW _ _ _ ⟨by decide, ?_⟩
    rw [rd k (by omega), if_pos (by omega)]
    exact t_396c hn hro h18 hv ⟨k0, by omega⟩ 3 0 (by decide) (by decide) V Qr Qt hV hW (ih (k + 1) (by omega) (by omega) V Qr Qt hV hW g)

theorem q_381 [Inhabited fz_] (hn : 0 ≤ N 239 0 ∧ N 239 0 ≤ 12) (hro : ∀ r, 0 ≤ r → r < N 6 18 → 0 ≤ N 239 (sR r) ∧ N 239 (sR r) ≤ 6) (h18 : 0 ≤ N 6 18 ∧ N 6 18 ≤ 10) : Ex_ 2 381 [.inr (.inr 6)] N [] (svM N (FSI N (fun c => 0 < c)) 0) := fun Qr Qt g => t_381 fun V hV hW => b_381_0 (Tr_mono _) hV hW _ (by
  have a := t_381b hro h18 (N 6 18).toNat 0 (by omega) (by decide) V Qr Qt hV hW
  have e0 : svM N (RSI N 0 0) 0 = N := svM_0 (fun j h => by rcases h with ⟨r', q', x, _⟩ | ⟨q', x, _⟩ <;> omega)
  rw [e0] at a
  refine a ?_
  have d := t_381d hn hro h18 (N 239 0).toNat 0 (by omega) (by decide) V Qr Qt hV hW g
  rw [svM_c (S' := RSI N (N 6 18) 0) (fun j => ⟨fun h => h.elim id (fun h => by rcases h with ⟨r', q', x, _⟩ | ⟨q', x, _⟩ <;> omega), fun h => .inl h⟩)] at d
  exact d)
theorem q_396v [Inhabited fz_] {V : vv_} {Qr : qr_} {Qt : qt_} (hV : Cl_ wd0 (Tr_ wd0 pg0 1) V Qr Qt m_396) (hW : Wk_ V) (hn : 0 ≤ N 239 0 ∧ N 239 0 ≤ 12) (hro : ∀ r, 0 ≤ r → r < N 6 18 → 0 ≤ N 239 (sR r) ∧ N 239 (sR r) ≤ 6) (h18 : 0 ≤ N 6 18 ∧ N 6 18 ≤ 10) (hv : N 6 128 = v) (g : Qr [.inl 1] (up_ (svM N (FSI N (fun c => 0 ≤ c)) v) 6 130 0)) : V 30 [rr 6, ii x1, ii 0, none] [] N := by
  have a := t_396b (x1 := x1) hro h18 hv (N 6 18).toNat 0 (by omega) (by decide) V Qr Qt hV hW
  have e0 : svM N (RSI N 0 0) v = N := svM_0 (fun j h => by rcases h with ⟨r', q', x, _⟩ | ⟨q', x, _⟩ <;> omega)
  rw [e0] at a
  refine a ?_
  have d := t_396d (x1 := x1) hn hro h18 hv (N 239 0).toNat 0 (by omega) (by decide) V Qr Qt hV hW g
  rw [svM_c (S' := RSI N (N 6 18) 0) (fun j => ⟨fun h => h.elim id (fun h => by rcases h with ⟨r', q', x, _⟩ | ⟨q', x, _⟩ <;> omega), fun h => .inl h⟩)] at d
  exact d
end SVa
end T414_sv

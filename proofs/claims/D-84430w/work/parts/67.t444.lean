section T444_tb
/-! Q's tables read anew: what the run reads of them is the same -/
def TBE (N N' : mm_) : Prop := (N' 6 17 = N 6 17 ∧ N' 6 18 = N 6 18 ∧ N' 6 19 = N 6 19) ∧ (∀ s, 0 ≤ s → s < N 6 17 → N' 156 s = N 156 s ∧ ∀ i, 0 ≤ i → i < N 156 s → N' 157 (3 * s + i) = N 157 (3 * s + i))
  ∧ ∀ T, 0 ≤ T → T < N 6 19 → (N' 171 T = N 171 T ∧ N' 172 T = N 172 T ∧ N' 173 T = N 173 T ∧ N' 174 T = N 174 T) ∧ ∀ k, 0 ≤ k → k < N 171 T → N' 182 (8 * T + k) = N 182 (8 * T + k) ∧ N' 183 (8 * T + k) = N 183 (8 * T + k) ∧ N' 184 (8 * T + k) = N 184 (8 * T + k)
section TBa
variable {z : Int} {M N M' N' : mm_} {f g h9 : Int → Int} {sg k n B : Int}
theorem TBE_of [Inhabited fz_] (h : PLr M N) (h' : PLr M N') : TBE N N' := by
  have c : ∀ {A : mm_}, PLr M A → (swc M 5 0 = A 6 17 ∧ swc M 5 1 = A 6 18 ∧ swc M 5 2 = A 6 19) := fun {A} p => by
    have a := p.1
    rw [tbN_6 (i := 17) (by decide), tbN_6 (i := 18) (by decide), tbN_6 (i := 19) (by decide)] at a
    exact ⟨a.1.1, a.2.1.1, a.2.2.1⟩
  have s : ∀ {A : mm_}, PLr M A → ∀ s, 0 ≤ s → s < A 6 17 → swc M 112 s = A 156 s ∧ ∀ i, 0 ≤ i → i < A 156 s → A 157 (3 * s + i) = swc M 113 (3 * s + i) + 1 := fun {A} p s s0 s1 => by
    have a := p.2.2.2.2.1 s s0 (by rw [tbN_6 (by decide)]; exact s1)
    rw [tbN_r (q := 156) (by decide) (by decide), tbN_r (q := 157) (by decide) (by decide)] at a
    exact ⟨a.1.2.2, fun i i0 i1 => (a.2 i i0 i1).1⟩
  have t : ∀ {A : mm_}, PLr M A → ∀ T, 0 ≤ T → T < A 6 19 → (swc M 124 T = A 171 T ∧ swc M 125 T = A 172 T ∧ swc M 126 T = A 173 T ∧ swc M 123 T = A 174 T) ∧ ∀ k, 0 ≤ k → k < A 171 T → swc M 130 (8 * T + k) + 1 = A 182 (8 * T + k) ∧ swc M 131 (8 * T + k) = A 183 (8 * T + k) ∧ swc M 132 (8 * T + k) = A 184 (8 * T + k) := fun {A} p T T0 T1 => by
    obtain ⟨_, _, ⟨a1, a2, a3, a4, _⟩, a5, _⟩ := p.2.1 T T0 (by rw [tbN_6 (by decide)]; exact T1)
    rw [tbN_r (q := 171) (by decide) (by decide)] at a2 a5
    rw [tbN_r (q := 172) (by decide) (by decide)] at a3
    rw [tbN_r (q := 173) (by decide) (by decide)] at a4
    rw [tbN_r (q := 174) (by decide) (by decide)] at a1
    rw [tbN_r (q := 182) (by decide) (by decide), tbN_r (q := 183) (by decide) (by decide), tbN_r (q := 184) (by decide) (by decide)] at a5
    exact ⟨⟨a2.1, a3.1, a4.1, a1.1⟩, fun k k0 k1 => (a5 k k0 k1).1⟩
  have c1 := c h
  have c2 := c h'
  have e17 : N' 6 17 = N 6 17 := by (clear h h' c s t; lia)
  have e19 : N' 6 19 = N 6 19 := by (clear h h' c s t e17; lia)
  refine ⟨⟨e17, by (clear h h' c s t e17 e19; lia), e19⟩, fun x x0 x1 => ?_, fun T T0 T1 => ?_⟩
  · obtain ⟨p1, p2⟩ := s h x x0 x1
    obtain ⟨q1, q2⟩ := s h' x x0 (by (clear h h' c s t e17 e19 x0 p1 p2; omega))
    refine ⟨by (clear h h' c s t c1 c2 e17 e19 x0 x1 p2 q2; lia), fun i i0 i1 => ?_⟩
    have := p2 i i0 i1
    have := q2 i i0 (by (clear h h' c s t c1 c2 e17 e19 x0 x1 p2 q2 i0 this; omega))
    (clear h h' c s t c1 c2 e17 e19 x0 x1 p1 p2 q1 q2 i0 i1; lia)
  · obtain ⟨p1, p2⟩ := t h T T0 T1
    obtain ⟨q1, q2⟩ := t h' T T0 (by (clear h h' c s t e17 e19 T0 p1 p2; lia))
    refine ⟨by (clear h h' c s t c1 c2 e17 e19 T0 T1 p2 q2; lia), fun i i0 i1 => ?_⟩
    have := p2 i i0 i1
    have := q2 i i0 (by (clear h h' c s t c1 c2 e17 e19 T0 T1 p2 q2 i0 this; omega))
    (clear h h' c s t c1 c2 e17 e19 T0 T1 p1 p2 q1 q2 i0 i1; lia)
theorem RU_T [Inhabited fz_] (h : RU z M N) (tb : TBE N N') (hx : ∀ r : Nat, r ∈ [10, 11, 12, 13, 14, 15, 16, 17, 18, 19, 20, 21, 22, 23, 24] → M' r = M r) (h0 : ∀ i : Int, i ∈ rfX → M' 0 i = M 0 i) (hq : ∀ r : Nat, r ∈ [239, 240, 241] → N' r = N r) (h6 : ∀ i : Int, i ∈ rfQ → i ≠ 18 → i ≠ 19 → N' 6 i = N 6 i) : RU z M' N' := by
  obtain ⟨⟨h1, h1', h1'', h1'''⟩, h2, h3, h4, h5⟩ := h
  have q239 := hq 239 (by decide)
  have x7 := h0 7 (by decide)
  have x8 := h0 8 (by decide)
  refine ⟨⟨by rw [x7, q239]; exact h1, by rw [x8, q239]; exact h1', fun k k0 k1 => ?_, fun k k0 k1 i i0 i1 => by rw [q239]; exact h1''' k (by rw [x7] at k0; exact k0) k1 i i0 i1⟩, RRt_c h2 (hx 21 (by decide)) (hx 22 (by decide)) q239 tb.1.2.1, RSC_c h3 (fun i hi => h0 i (by revert hi; simp only [rfX, List.mem_cons, List.not_mem_nil, or_false]; (clear tb hx h0 hq h6 h1 h1' h1'' h1''' h2 h3 h4 h5 q239 x7 x8; lia))) (fun i hi => h6 i (by revert hi; simp only [rfQ, List.mem_cons, List.not_mem_nil, or_false]; (clear tb hx h0 hq h6 h1 h1' h1'' h1''' h2 h3 h4 h5 q239 x7 x8; lia)) (by revert hi; simp only [List.mem_cons, List.not_mem_nil, or_false]; (clear tb hx h0 hq h6 h1 h1' h1'' h1''' h2 h3 h4 h5 q239 x7 x8; omega)) (by revert hi; simp only [List.mem_cons, List.not_mem_nil, or_false]; omega)), ROU_c h4 (fun i hi => h0 i (by revert hi; simp only [rfX, List.mem_cons, List.not_mem_nil, or_false]; (clear tb hx h0 hq h6 h1 h1' h1'' h1''' h2 h3 h4 h5 q239 x7 x8; lia))) (hx 24 (by decide)) (fun i hi => h6 i (by revert hi; simp only [rfQ, List.mem_cons, List.not_mem_nil, or_false]; (clear tb hx h0 hq h6 h1 h1' h1'' h1''' h2 h3 h4 h5 q239 x7 x8; lia)) (by revert hi; simp only [List.mem_cons, List.not_mem_nil, or_false]; (clear tb hx h0 hq h6 h1 h1' h1'' h1''' h2 h3 h4 h5 q239 x7 x8; lia)) (by revert hi; simp only [List.mem_cons, List.not_mem_nil, or_false]; (clear tb hx h0 hq h6 h1 h1' h1'' h1''' h2 h3 h4 h5 q239 x7 x8; lia))) (hq 241 (by decide)), REV_c h5 (fun i hi => h0 i (by revert hi; simp only [rfX, List.mem_cons, List.not_mem_nil, or_false]; (clear tb hx h0 hq h6 h1 h1' h1'' h1''' h2 h3 h4 h5 q239 x7 x8; lia))) (hx 23 (by decide)) (fun i hi => h6 i (by revert hi; simp only [rfQ, List.mem_cons, List.not_mem_nil, or_false]; (clear tb hx h0 hq h6 h1 h1' h1'' h1''' h2 h3 h4 h5 q239 x7 x8; lia)) (by revert hi; simp only [List.mem_cons, List.not_mem_nil, or_false]; (clear tb hx h0 hq h6 h1 h1' h1'' h1''' h2 h3 h4 h5 q239 x7 x8; lia)) (by revert hi; simp only [List.mem_cons, List.not_mem_nil, or_false]; (clear tb hx h0 hq h6 h1 h1' h1'' h1''' h2 h3 h4 h5 q239 x7 x8; lia))) (hq 240 (by decide))⟩
  have w := h1'' k k0 (by rw [x7] at k1; exact k1)
  have y := (tb.2.2 (M 11 k) w.2.1.2.1.1 w.2.1.2.1.2).1
  unfold IN at w ⊢
  rw [x8, hx 10 (by decide), hx 11 (by decide), hx 12 (by decide), hx 13 (by decide), hx 14 (by decide), hx 15 (by decide), hx 16 (by decide), hx 17 (by decide), hx 18 (by decide), hx 19 (by decide), hx 20 (by decide), q239, tb.1.2.2, y.2.1, y.2.2.1, y.2.2.2]
  exact w
theorem SGV_T [Inhabited fz_] (h : SGV N sg h9) (tb : TBE N N') : SGV N' sg h9 := by
  obtain ⟨a, b, c⟩ := h
  refine ⟨by rw [tb.1.1]; exact a, fun s2 v v0 v3 v1 e => ?_, c⟩
  have s : 0 ≤ sg ∧ sg < N 6 17 := by (clear tb c v0 v3 v1 e; omega)
  obtain ⟨p1, p2⟩ := tb.2.1 sg s.1 s.2
  rw [p1] at v1
  rw [p2 v v0 v1] at e
  exact b s2 v v0 v3 v1 e
theorem TIN_T [Inhabited fz_] (h : TIN N g) (tb : TBE N N') (hg : 0 ≤ g 1 ∧ g 1 < N 6 19) : TIN N' g := by
  obtain ⟨p1, p2⟩ := tb.2.2 (g 1) hg.1 hg.2
  refine ⟨fun u u0 u1 e i i0 i1 i2 i3 => ?_, fun q q0 q1 q2 => SGV_T (h.2 q q0 q1 q2) tb⟩
  rw [p1.1] at u1
  obtain ⟨w1, w2, w3⟩ := p2 u u0 u1
  rw [w1] at e
  rw [w2] at i1
  rw [w3] at i2 i3 ⊢
  exact h.1 u u0 u1 e i i0 i1 i2 i3
theorem TYR_T [Inhabited fz_] (h : TYR N f) (hv : ∀ k, 0 ≤ k → k < f 0 → 0 ≤ f (sB k + 1) ∧ f (sB k + 1) < N 6 19) (tb : TBE N N') : TYR N' f := by
  refine ⟨fun k k0 k1 k2 => TIN_T (h.1 k k0 k1 k2) tb (hv k k0 k2), fun r r0 r1 r2 q q0 q1 q2 => SGV_T (h.2.1 r r0 r1 (by rw [tb.1.2.1] at r2; exact r2) q q0 q1 q2) tb, h.2.2⟩
theorem TYA_T [Inhabited fz_] (h : RU z M N) (hA : TYA N) (tb : TBE N N') (e : N' 239 = N 239) : TYA N' := by
  obtain ⟨a1, a2, a3⟩ := hA
  unfold TYA
  rw [e]
  refine ⟨fun k k0 k1 k2 => TIN_T (a1 k k0 k1 k2) tb ?_, fun r r0 r1 r2 q q0 q1 q2 => SGV_T (a2 r r0 r1 (by rw [tb.1.2.1] at r2; exact r2) q q0 q1 q2) tb, fun j => by rw [e]; exact a3 j⟩
  have w := h.1.2.2.1 k k0 (by rw [← h.1.1.2.2]; exact k2)
  show 0 ≤ N 239 (sB k + 1) ∧ N 239 (sB k + 1) < N 6 19
  rw [← w.1.2.1]; exact w.2.1.2.1
theorem VR_T [Inhabited fz_] (h : VR N f) (tb : TBE N N') : VR N' f := by
  obtain ⟨h1, h2, h3, h4, h5⟩ := h
  refine ⟨h1, fun k k0 k1 => ?_, h3, by rw [tb.1.2.1]; exact h4, by rw [tb.1.2.1]; exact h5⟩
  have w := h2 k k0 k1
  have y := (tb.2.2 _ w.1.2.1.1 w.1.2.1.2).1
  unfold VSL at w ⊢
  rw [tb.1.2.2, y.2.1, y.2.2.1, y.2.2.2]
  exact w
theorem slsL_T [Inhabited fz_] (tb : TBE N N') : ∀ (n : Nat) (x : Int), (∀ k, x ≤ k → k < x + n → 0 ≤ f (sB k + 1) ∧ f (sB k + 1) < N 6 19) → slsL N' f x n = slsL N f x n
  | 0, _, _ => rfl
  | n + 1, x, hv => by
    have w := hv x (Int.le_refl _) (by (clear tb hv; omega))
    have y := (tb.2.2 _ w.1 w.2).1.2.1
    unfold slsL slL slT
    rw [y, slsL_T tb n (x + 1) (fun k k0 k1 => hv k (by (clear tb hv w y k1; omega)) (by omega))]
theorem pkL_T [Inhabited fz_] (h : VR N f) (tb : TBE N N') : pkL N' f = pkL N f := by
  unfold pkL
  rw [tb.1.2.1, slsL_T tb _ _ (fun k k0 k1 => (h.2.1 k (by omega) (by have := h.1.1; omega)).1.2.1)]
theorem SFK_T [Inhabited fz_] (h : SFK M N B k) (tb : TBE N N') (hr : rwk N' k = rwk N k) (h253 : N' 253 k = N 253 k) : SFK M N' B k := by
  obtain ⟨a1, a2, a3, a4, a5⟩ := h
  unfold SFK
  rw [hr, pkL_T a1 tb, h253]
  exact ⟨VR_T a1 tb, TYR_T a2 (fun k k0 k1 => (a1.2.1 k k0 k1).1.2.1) tb, a3, a4, a5⟩
theorem SST_T [Inhabited fz_] (h : SST M N n B) (tb : TBE N N') (h163 : N' 6 163 = N 6 163) (hq : ∀ r : Nat, r ∈ [245, 247, 248, 249, 250, 251, 252, 253] → N' r = N r) : SST M N' n B := by
  obtain ⟨h1, h2, h3⟩ := h
  refine ⟨by rw [h163]; exact h1, h2, fun k k0 k1 => ?_⟩
  obtain ⟨w1, w2⟩ := h3 k k0 k1
  refine ⟨SFK_T w1 tb (by unfold rwk; rw [hq 245 (by decide)]) (by rw [hq 253 (by decide)]), ?_⟩
  unfold SEQ at w2 ⊢
  rw [hq 247 (by decide), hq 248 (by decide), hq 249 (by decide), hq 250 (by decide), hq 251 (by decide), hq 252 (by decide)]
  exact w2
end TBa
end T444_tb
section T445_ld
/-! load: X's names of signals (behind the change of plans) -/
theorem c_54_75 [Inhabited fz_] {D : ca_} {V : vv_} {Qr : qr_} {Qt : qt_} (hD : Mo_ D) (hV : Cl_ wd0 D V Qr Qt m_54) (hW : Wk_ V) (x1 : Int) (x2 : Int) (x4 : Int) (M : mm_) (h :
 (if x4 < M 4 0 then
  (0 ≤ x4 ∧ x4 < 20) ∧
   (0 ≤ M 56 x4 ∧ M 56 x4 < 1202) ∧
   (0 ≤ M 56 x4 ∧ M 56 x4 < 1202) ∧
   (0 ≤ x4 ∧ x4 < 20) ∧
   V 136 [rr 0, ii x1, ii x2, none, ii x4, ii (M 56 x4), ii 0] [] (up_ M 43 x4 (w32 ((M 72 (M 56 x4)) - (M 71 (M 56 x4)))))
 else
  bl_ 1 ∧ bl_ 0 ∧ Qr [.inl 0] (up_ (up_ M 0 3 1) 0 4 0))) : V 75 [rr 0, ii x1, ii x2, none, ii x4, none, none] [] M := bx_go hD hV hW [(75, [5, 6]), (136, [])] 31 h
theorem c_54_136 [Inhabited fz_] {D : ca_} {V : vv_} {Qr : qr_} {Qt : qt_} (hD : Mo_ D) (hV : Cl_ wd0 D V Qr Qt m_54) (hW : Wk_ V) (x1 : Int) (x2 : Int) (x4 : Int) (x5 : Int) (x6 : Int) (M : mm_) (h :
 (0 ≤ x4 ∧ x4 < 20) ∧
  (if x6 < M 43 x4 then
  (0 ≤ x5 ∧ x5 < 1202) ∧
   (0 ≤ w32 ((M 71 x5) + x6) ∧ w32 ((M 71 x5) + x6) < 5000) ∧ (-128 ≤ M 69 (w32 ((M 71 x5) + x6)) ∧ M 69 (w32 ((M 71 x5) + x6)) ≤ 127 →
   ((0 ≤ w32 ((w32 (10 * x4)) + x6) ∧ w32 ((w32 (10 * x4)) + x6) < 200) ∧ -128 ≤ M 69 (w32 ((M 71 x5) + x6)) ∧ M 69 (w32 ((M 71 x5) + x6)) ≤ 127) ∧
   V 136 [rr 0, ii x1, ii x2, none, ii x4, ii x5, ii (w32 (x6 + 1))] [] (up_ M 42 (w32 ((w32 (10 * x4)) + x6)) (M 69 (w32 ((M 71 x5) + x6)))))
 else
  V 75 [rr 0, ii x1, ii x2, none, ii (w32 (x4 + 1)), none, none] [] M)) : V 136 [rr 0, ii x1, ii x2, none, ii x4, ii x5, ii x6] [] M := bx_go hD hV hW [(75, [5, 6]), (136, [])] 30 h

def LDP (M : mm_) : Prop := (0 ≤ M 4 0 ∧ M 4 0 ≤ 20) ∧ (∀ s, 0 ≤ s → s < M 4 0 → (0 ≤ M 56 s ∧ M 56 s < 1202) ∧ (1 ≤ M 72 (M 56 s) - M 71 (M 56 s) ∧ M 72 (M 56 s) - M 71 (M 56 s) ≤ 10) ∧ 0 ≤ M 71 (M 56 s) ∧ M 72 (M 56 s) ≤ 5000) ∧ ∀ i, 0 ≤ i → i < 5000 → -128 ≤ M 69 i ∧ M 69 i ≤ 127
/-- the names of the first n signals are there -/
def LDN (M M' : mm_) (n : Int) : Prop := ∀ s, 0 ≤ s → s < n → M' 43 s = M 72 (M 56 s) - M 71 (M 56 s) ∧ ∀ j, 0 ≤ j → j < M 72 (M 56 s) - M 71 (M 56 s) → M' 42 (10 * s + j) = M 69 (M 71 (M 56 s) + j)
def LDF (M M' : mm_) : Prop := (∀ r : Nat, r ∉ [0, 42, 43] → M' r = M r) ∧ (∀ i : Int, i ≠ 3 → i ≠ 4 → M' 0 i = M 0 i) ∧ (M' 0 3 = 1 ∧ M' 0 4 = 0) ∧ LDN M M' (M 4 0)
section LDa
variable {D : ca_} {V : vv_} {Qr : qr_} {Qt : qt_} {M0 : mm_} {x1 x2 : Int}
theorem l_54b [Inhabited fz_] (hD : Mo_ D) (hV : Cl_ wd0 D V Qr Qt m_54) (hW : Wk_ V) (hP : LDP M0) {s : Int} (hs : 0 ≤ s ∧ s < M0 4 0) :
    ∀ (n : Nat) (j : Int) (M : mm_), M0 72 (M0 56 s) - M0 71 (M0 56 s) - j ≤ (n : Int) → 0 ≤ j → j ≤ M0 72 (M0 56 s) - M0 71 (M0 56 s) → (∀ r : Nat, r ≠ 42 → r ≠ 43 → M r = M0 r) → LDN M0 M s → M 43 s = M0 72 (M0 56 s) - M0 71 (M0 56 s) → (∀ k, 0 ≤ k → k < j → M 42 (10 * s + k) = M0 69 (M0 71 (M0 56 s) + k)) →
    (∀ M', (∀ r : Nat, r ≠ 42 → r ≠ 43 → M' r = M0 r) → LDN M0 M' (s + 1) → V 75 [rr 0, ii x1, ii x2, none, ii (s + 1), none, none] [] M') →
    V 136 [rr 0, ii x1, ii x2, none, ii s, ii (M0 56 s), ii j] [] M
  | n, j, M, hn, j0, j1, hr, hL, e43, hk, hK => by
    obtain ⟨p1, p2, p3⟩ := hP
    obtain ⟨b1, b2, b3⟩ := p2 s hs.1 hs.2
    refine c_54_136 hD hV hW _ _ _ _ _ _ ⟨by omega, ?_⟩
    rw [hr 71 (by decide) (by decide), hr 69 (by decide) (by decide), e43]
    by_cases c : j < M0 72 (M0 56 s) - M0 71 (M0 56 s)
    · obtain ⟨n, rfl⟩ : ∃ m, n = m + 1 := ⟨n - 1, by omega⟩
      rw [if_pos c, w32_id (x := M0 71 (M0 56 s) + j) (by omega) (by (clear hD hV hW hs j0 j1 hr hL hk hK p1 p2 p3 b1 b2 hn; omega)), w32_id (x := 10 * s) (by (clear hD hV hW j0 j1 hr hL e43 hk hK p1 p2 p3 b1 b2 b3 c hn; omega)) (by omega), w32_id (x := 10 * s + j) (by omega) (by omega), w32_id (x := j + 1) (by omega) (by omega)]
      refine ⟨b1, by omega, fun hb => ⟨⟨by omega, hb⟩, l_54b hD hV hW ⟨p1, p2, p3⟩ hs n (j + 1) _ (by omega) (by omega) (by omega) (fun r h1 h2 => by rw [up_ne h1]; exact hr r h1 h2) (fun t t0 t1 => ?_) (by rw [up_ne (by decide)]; exact e43) (fun k k0 k1 => ?_) hK⟩⟩
      · obtain ⟨w1, w2⟩ := hL t t0 t1
        have := p2 t t0 (by omega)
        exact ⟨by rw [up_ne (by decide)]; exact w1, fun i i0 i1 => by rw [upo (by (clear hD hV hW hs j1 hr hL hk hK p1 p2 p3 b1 b3 hn hb t0 w1 w2; lia))]; exact w2 i i0 i1⟩
      · by_cases e : k = j
        · rw [e, up_at]
        · rw [upo (by (clear hD hV hW hs j0 j1 hr hL e43 hk hK p1 p2 p3 b1 b2 b3 c hn hb k0 k1; lia))]; exact hk k k0 (by (clear hD hV hW hs j0 j1 hr hL e43 hk hK p1 p2 p3 b1 b2 b3 c hn hb k0; lia))
    · rw [if_neg c, w32_id (x := s + 1) (by omega) (by omega)]
      refine hK M hr (fun t t0 t1 => ?_)
      by_cases e : t = s
      · rw [e]; exact ⟨e43, fun i i0 i1 => hk i i0 (by omega)⟩
      · exact hL t t0 (by omega)
theorem l_54a [Inhabited fz_] (hD : Mo_ D) (hV : Cl_ wd0 D V Qr Qt m_54) (hW : Wk_ V) (hP : LDP M0) (hq : ∀ M', LDF M0 M' → Qr [.inl 0] M') :
    ∀ (n : Nat) (s : Int) (M : mm_), M0 4 0 - s ≤ (n : Int) → 0 ≤ s → s ≤ M0 4 0 → (∀ r : Nat, r ≠ 42 → r ≠ 43 → M r = M0 r) → LDN M0 M s → V 75 [rr 0, ii x1, ii x2, none, ii s, none, none] [] M
  | n, s, M, hn, s0, s1, hr, hL => by
    have p1 := hP.1
    refine c_54_75 hD hV hW _ _ _ _ ?_
    rw [hr 4 (by decide) (by decide), hr 56 (by decide) (by decide), hr 72 (by decide) (by decide), hr 71 (by decide) (by decide)]
    by_cases c : s < M0 4 0
    · obtain ⟨n, rfl⟩ : ∃ m, n = m + 1 := ⟨n - 1, by omega⟩
      obtain ⟨b1, b2, b3⟩ := hP.2.1 s s0 c
      rw [if_pos c, w32_id (x := M0 72 (M0 56 s) - M0 71 (M0 56 s)) (by omega) (by (clear hD hV hW hP hq s0 s1 hr hL p1 c hn b1 b3; omega))]
      refine ⟨by omega, b1, b1, by omega, l_54b hD hV hW hP ⟨s0, c⟩ 10 0 _ (by omega) (by omega) (by (clear hD hV hW hP hq s0 s1 hr hL p1 c hn b1 b3; omega)) (fun r h1 h2 => by rw [up_ne h2]; exact hr r h1 h2) (fun t t0 t1 => ?_) up_at (fun k k0 k1 => by (clear hD hV hW hP hq s0 s1 hr hL p1 c hn b1 b2 b3; omega)) (fun M' hr' hL' => l_54a hD hV hW hP hq n (s + 1) M' (by omega) (by omega) (by omega) hr' hL')⟩
      obtain ⟨w1, w2⟩ := hL t t0 t1
      exact ⟨by rw [upo (by (clear hD hV hW hP hq s0 s1 hr hL p1 c hn b1 b2 b3 t0 w1 w2; omega))]; exact w1, fun i i0 i1 => by rw [up_ne (by decide)]; exact w2 i i0 i1⟩
    · rw [if_neg c]
      have e : s = M0 4 0 := by omega
      refine ⟨.inr rfl, .inl rfl, hq _ ⟨fun r h => ?_, fun i h3 h4 => ?_, ⟨by rw [upo (by decide), up_at], up_at⟩, fun t t0 t1 => ?_⟩⟩
      · have n0 : r ≠ 0 := fun e => h (by rw [e]; decide)
        rw [up_ne n0, up_ne n0]; exact hr r (fun e => h (by rw [e]; decide)) (fun e => h (by rw [e]; decide))
      · rw [upo h4, upo h3, hr 0 (by decide) (by decide)]
      · obtain ⟨w1, w2⟩ := hL t t0 (by (clear hD hV hW hP hq hn s0 hr hL p1 e t0; omega))
        exact ⟨by rw [up_ne (by decide), up_ne (by decide)]; exact w1, fun i i0 i1 => by rw [up_ne (by decide), up_ne (by decide)]; exact w2 i i0 i1⟩
theorem x_54c [Inhabited fz_] (hD : Mo_ D) (hV : Cl_ wd0 D V Qr Qt m_54) (hW : Wk_ V) (hP : LDP M0) (hq : ∀ M', LDF M0 M' → Qr [.inl 0] M') : V 75 [rr 0, ii x1, ii x2, none, ii 0, none, none] [] M0 :=
  l_54a hD hV hW hP hq 20 0 M0 (by have := hP.1; omega) (by omega) hP.1.1 (fun _ _ _ => rfl) (fun t t0 t1 => by (clear hD hV hW hP hq; omega))
end LDa
end T445_ld
section T446_tp
/-! the relation between the calls of the law -/
/-- the plans change places -/
def swM (M : mm_) : mm_ := fun r => if r = 4 then M 5 else if r = 5 then M 4 else if 79 ≤ r ∧ r ≤ 111 then M (r + 33) else if 112 ≤ r ∧ r ≤ 144 then M (r - 33) else if r = 1 then (fun i => if i = 2 then 4 else M 1 i) else M r
/-- the text that is loaded: X read it from Mg on and had Mp behind -/
def GDT (M N : mm_) : Prop := ∃ (Mg Mp : mm_) (n : Int), ((0 ≤ n ∧ n ≤ 5000 ∧ N 6 5 = n) ∧ RO_ Mg ∧ BY Mg 9 ∧ BY Mg 69 ∧ (0 ≤ Mg 1 7 ∧ Mg 1 7 ≤ 100000000) ∧ ∀ i, 0 ≤ i → i < n → N 147 i = Mg 9 i)
  ∧ (∀ (K : Int → mm_ → Prop) (Qt : qt_), Tr_ wd0 pg0 133 101 [.inr (.inr 1), .inr (.inr 9), .inl n, .inr (.inr 5)] Mg (ri_ K) Qt → K 0 Mp) ∧ (M 4 = Mp 5 ∧ (∀ r : Nat, 79 ≤ r → r ≤ 111 → M r = Mp (r + 33)) ∧ LDN (swM Mp) M (M 4 0) ∧ BY Mp 69)
/-- what is not of the run -/
def TBS (c : Int) (M N : mm_) : Prop := (TPB M N ∧ CPR M N) ∧ (RO_ M ∧ Wd_ N ∧ BY M 69 ∧ BY M 74 ∧ BY N 146 ∧ BY N 147) ∧ (0 ≤ M 1 7 ∧ M 1 7 ≤ 30000 * c) ∧ (LDD M N ∧ WNR M N) ∧ (M 0 3 = 1 → NMQ M N ∧ GDT M N)
/-- what is of the run -/
def TRN [Inhabited fz_] (c : Int) (M N : mm_) : Prop := BAS M N ∧ LKR M N ∧ (M 0 4 = 1 → M 0 3 = 1 ∧ SCT M N ∧ M 0 8 ≤ 300000 * c ∧ ∃ B, TSR M N B ∧ B ≤ 300000 * c)
def TOP [Inhabited fz_] (c : Int) (M N : mm_) : Prop := TBS c M N ∧ TRN c M N
def FXb (M M' : mm_) : Prop := (∀ r : Nat, r ≠ 0 → ¬ (10 ≤ r ∧ r ≤ 41) → M' r = M r) ∧ ∀ i : Int, i ∈ [3, 6, 71, 96, 97] → M' 0 i = M 0 i
def FQb (N N' : mm_) : Prop := (∀ r : Nat, r ≠ 6 → ¬ (239 ≤ r ∧ r ≤ 253) → N' r = N r) ∧ ∀ i : Int, i ∈ [3, 5, 6, 119, 120, 187, 188, 17, 18, 19, 62, 63, 75, 76, 90, 104] → N' 6 i = N 6 i
/-- X changes X's roles, Q Q's -/
def FX9 (M M' : mm_) : Prop := ∀ r : Nat, (r = 6 ∨ 145 ≤ r) → M' r = M r
def FQ9 (N N' : mm_) : Prop := ∀ r : Nat, ¬ (r = 6 ∨ (145 ≤ r ∧ r ≤ 266)) → N' r = N r
/-- X's call and Q's answer alike -/
def JT (dx nx : Nat) (ax : List pv_) (dq nq : Nat) (aq : List pv_) (M N : mm_) (R : mm_ → mm_ → Prop) : Prop := Tr_ wd0 pg0 dx nx ax M (ri_ fun v M' => FX9 M M' ∧ Tr_ wd0 pg0 dq nq aq N (ri_ fun v' N' => v' = v ∧ FQ9 N N' ∧ R M' N') (fun _ _ => False)) (fun _ _ => False)
section TPa
variable {c c' : Int} {M N M' N' : mm_} {dx nx dq nq : Nat} {ax aq : List pv_} {R : mm_ → mm_ → Prop}
theorem JT_e [Inhabited fz_] {v : Int} (x : Ex_ dx nx ax M [.inl v] M') (q : Ex_ dq nq aq N [.inl v] N') (fx : FX9 M M') (fq : FQ9 N N') (h : R M' N') : JT dx nx ax dq nq aq M N R :=
  x _ _ (ri_i ⟨fx, q _ _ (ri_i ⟨rfl, fq, h⟩)⟩)
theorem JT_s [Inhabited fz_] (h : SM2 dx nx ax dq nq aq M N) (hR : R M N) : JT dx nx ax dq nq aq M N R := by
  obtain ⟨v, x, q⟩ := h
  exact JT_e x q (fun _ _ => rfl) (fun _ _ => rfl) hR
theorem swc_f [Inhabited fz_] (h4 : M' 4 = M 4) (h : ∀ r : Nat, 79 ≤ r → r ≤ 111 → M' r = M r) : swc M' = swc M := by
  funext r
  unfold swc
  split
  · exact h4
  · split
    · exact h _ (by omega) (by omega)
    · rfl
theorem tbN_f [Inhabited fz_] (h : ∀ r : Nat, 152 ≤ r → r ≤ 234 → N' r = N r) (h6 : ∀ i : Int, i ∈ tfL → N' 6 i = N 6 i) : tbN N' = tbN N := by
  funext r
  unfold tbN
  split
  · funext i
    split
    · exact h6 i (by assumption)
    · rfl
  · split
    · rename_i e; exact h _ e.1 e.2
    · rfl
theorem BY_c [Inhabited fz_] {r : Nat} (h : BY M r) (e : M' r = M r) : BY M' r := by unfold BY; rw [e]; exact h
theorem TBS_f [Inhabited fz_] (h : TBS c M N) (hc : c ≤ c') (fx : FXb M M') (fq : FQb N N') : TBS c' M' N' := by
  obtain ⟨⟨⟨⟨t1, t2⟩, t3, t4⟩, c1, c2, c3⟩, ⟨r1, r2, r3, r4, r5, r6⟩, m7, ⟨ld, wn⟩, nq⟩ := h
  obtain ⟨x, x0⟩ := fx
  obtain ⟨q, q6⟩ := fq
  have x4 : swc M' = swc M := swc_f (x 4 (by decide) (by decide)) (fun r h0 h1 => x r (by omega) (by omega))
  have qt : tbN N' = tbN N := tbN_f (fun r h0 h1 => q r (by omega) (by omega)) (fun i hi => q6 i (by revert hi; unfold tfL; simp only [List.mem_cons, List.not_mem_nil, or_false]; (clear hc t1 t2 t3 t4 c1 c2 c3 r1 r2 r3 r4 r5 r6 m7 nq ld wn x x0 q q6 x4; lia)))
  refine ⟨⟨⟨⟨?_, ?_⟩, BY_c t3 (x 9 (by decide) (by decide)), BY_c t4 (q 145 (by decide) (by decide))⟩, by rw [x0 71 (by decide), q6 119 (by decide)]; exact c1, by rw [x0 96 (by decide), q6 187 (by decide)]; exact c2, by rw [x0 97 (by decide), q6 188 (by decide)]; exact c3⟩, ⟨?_, ?_, BY_c r3 (x 69 (by decide) (by decide)), BY_c r4 (x 74 (by decide) (by decide)), BY_c r5 (q 146 (by decide) (by decide)), BY_c r6 (q 147 (by decide) (by decide))⟩, ?_, ⟨?_, ?_⟩, ?_⟩
  · rw [x0 6 (by decide), q6 3 (by decide)]; exact t1
  · rw [x0 6 (by decide), x 9 (by decide) (by decide), q 145 (by decide) (by decide)]; exact t2
  · unfold RO_
    rw [x 1001 (by decide) (by decide), x 1002 (by decide) (by decide), x 1011 (by decide) (by decide), x 1012 (by decide) (by decide)]; exact r1
  · unfold Wd_
    rw [q 148 (by decide) (by decide)]; exact r2
  · rw [x 1 (by decide) (by decide)]; (clear t1 t2 t3 t4 c1 c2 c3 r1 r2 r3 r4 r5 r6 nq ld wn x x0 q q6 x4 qt; lia)
  · unfold LDD PLr
    rw [x0 3 (by decide), q6 6 (by decide), x4, qt, x 4 (by decide) (by decide), q6 120 (by decide)]; exact ld
  · unfold WNR
    rw [x0 3 (by decide), q6 120 (by decide), x 4 (by decide) (by decide), x 110 (by decide) (by decide), x 111 (by decide) (by decide), q 235 (by decide) (by decide), q 236 (by decide) (by decide)]; exact wn
  · rw [x0 3 (by decide)]
    intro e
    obtain ⟨n1, Mg, Mp, n, g1, g2, g3⟩ := nq e
    refine ⟨?_, Mg, Mp, n, ?_, g2, by rw [x 4 (by decide) (by decide)]; exact g3.1, fun r h0 h1 => by rw [x r (by omega) (by omega)]; exact g3.2.1 r h0 h1, by unfold LDN; rw [x 4 (by decide) (by decide), x 42 (by decide) (by decide), x 43 (by decide) (by decide)]; exact g3.2.2.1, g3.2.2.2⟩
    · unfold NMQ
      rw [x 4 (by decide) (by decide), x 42 (by decide) (by decide), x 43 (by decide) (by decide), q6 17 (by decide), q 152 (by decide) (by decide)]; exact n1
    · rw [q6 5 (by decide), q 147 (by decide) (by decide)]; exact g1
theorem FX_b [Inhabited fz_] (h : FXb M M') : FX9 M M' := fun r hr => h.1 r (by omega) (by omega)
theorem FQ_b [Inhabited fz_] (h : FQb N N') : FQ9 N N' := fun r hr => h.1 r (by omega) (by omega)
end TPa
end T446_tp
section T447_op
/-! the calls of the law: run, looks -/
section OPc
variable {c x1 x2 x3 x4 x5 b B : Int} {M N M' N' : mm_} {dx nx dq nq : Nat} {ax aq : List pv_}
theorem JT_le [Inhabited fz_] {R : mm_ → mm_ → Prop} {dx' dq' : Nat} (h : JT dx nx ax dq nq aq M N R) (h1 : dx ≤ dx') (h2 : dq ≤ dq') : JT dx' nx ax dq' nq aq M N R :=
  Tr_le h1 (Tr_m h (fun vs M1 g => by
    obtain ⟨v, e, g1, g2⟩ := g
    rw [e]
    exact ri_i ⟨g1, Tr_le h2 g2⟩) (fun _ _ h => h))
theorem TBS_m [Inhabited fz_] (h : TBS c M N) : TBS (c + 1) M N := TBS_f h (by omega) ⟨fun _ _ _ => rfl, fun _ _ => rfl⟩ ⟨fun _ _ _ => rfl, fun _ _ => rfl⟩
theorem TRN_m [Inhabited fz_] (h : TRN c M N) : TRN (c + 1) M N := by
  refine ⟨h.1, h.2.1, fun e => ?_⟩
  obtain ⟨a1, a2, a3, B, a4, a5⟩ := h.2.2 e
  exact ⟨a1, a2, by omega, B, a4, by omega⟩
theorem TOP_m [Inhabited fz_] (h : TOP c M N) : TOP (c + 1) M N := ⟨TBS_m h.1, TRN_m h.2⟩
theorem BAS_of [Inhabited fz_] (h : RNS M N) : BAS M N := ⟨fun i i0 i1 => (h.1.1.2.2.2.1.2 i i0 i1).1, fun i i0 i1 => (h.1.1.2.2.2.2.2 i i0 i1).1, h.1.2.2.1.2.2⟩
theorem TSR_c [Inhabited fz_] (hP : PLr M N) (h : TSR M N B) (h62 : M' 0 62 = M 0 62) (h163 : N' 6 163 = N 6 163) (hx : ∀ r : Nat, r ∈ [27, 28, 29, 32, 33, 34, 35, 36, 37] → M' r = M r) (hq : ∀ r : Nat, r ∈ [156, 157, 171, 172, 173, 174, 182, 183, 184, 245, 247, 248, 249, 250, 251, 252, 253] → N' r = N r) (h6 : N' 6 18 = N 6 18 ∧ N' 6 19 = N 6 19 ∧ N' 6 17 = N 6 17) : TSR M' N' B := by
  rcases h with ⟨a, b⟩ | ⟨n, s⟩
  · exact .inl ⟨by rw [h62]; exact a, by rw [h163]; exact b⟩
  · exact .inr ⟨n, SST_c s h62 h163 (fun r hr k _ _ _ => by rw [hx r hr]) hq h6.1 h6.2 (fun k k0 k1 => pkL_len (PKB_of hP) (s.2.2 k k0 k1).1.1)⟩
theorem FXb_r [Inhabited fz_] (h : XRG M M') : FXb M M' := ⟨fun r h0 h1 => h.1 r (fun e => by revert e; unfold xuL; simp only [List.mem_cons, List.not_mem_nil, or_false]; omega), fun i hi => h.2 i (fun e => by revert hi e; unfold xfL; simp only [List.mem_cons, List.not_mem_nil, or_false]; omega)⟩
theorem FQb_r [Inhabited fz_] (h : QRG N N') : FQb N N' := ⟨fun r h0 h1 => h.1 r (fun e => by revert e; unfold quL; simp only [List.mem_cons, List.not_mem_nil, or_false]; omega), fun i hi => h.2 i (fun e => by revert hi e; unfold qfL; simp only [List.mem_cons, List.not_mem_nil, or_false]; omega)⟩
/-- a call that runs on -/
theorem op_jn [Inhabited fz_] (h : TOP c M N) (hr : RNS M N) (j : JN dx nx ax dq nq aq M N b) (hb : b ≤ 200000) : JT dx nx ax dq nq aq M N (TOP (c + 1)) := by
  obtain ⟨v, M', N', x, q, st, ⟨fx, fq⟩, b8⟩ := j
  have gx := FXb_r fx
  have gq := FQb_r fq
  have e4 : M' 0 4 = M 0 4 := fx.2 4 (by decide)
  have e126 : N' 6 126 = N 6 126 := fq.2 126 (by decide)
  have rn : RNS M' N' := ⟨st, by rw [e4]; exact hr.2.1, by rw [e126]; exact hr.2.2⟩
  obtain ⟨a1, a2, a3, B, a4, a5⟩ := h.2.2.2 hr.2.1
  refine JT_e x q (FX_b gx) (FQ_b gq) ⟨TBS_f h.1 (by omega) gx gq, BAS_of rn, .inr rn, fun _ => ⟨by rw [gx.2 3 (by decide)]; exact a1, ?_, by (clear h hr x q st fx fq gx gq e4 e126 rn a1 a2 a4 a5; lia), B, ?_, by (clear h hr hb x q st b8 fx fq gx gq e4 e126 rn a1 a2 a3 a4; omega)⟩⟩
  · unfold SCT
    rw [fx.2 62 (by decide), fx.2 63 (by decide), fx.2 64 (by decide), fq.2 163 (by decide), fq.2 169 (by decide), fq.2 164 (by decide)]; exact a2
  · exact TSR_c hr.1.2.1 a4 (fx.2 62 (by decide)) (fq.2 163 (by decide)) (fun r hr => fx.1 r (fun e => by revert hr e; unfold xuL; simp only [List.mem_cons, List.not_mem_nil, or_false]; omega)) (fun r hr => fq.1 r (fun e => by revert hr e; unfold quL; simp only [List.mem_cons, List.not_mem_nil, or_false]; (clear h hr hb x q st b8 fx fq gx gq e4 e126 rn a1 a2 a3 a4 a5; omega))) ⟨fq.2 18 (by decide), fq.2 19 (by decide), fq.2 17 (by decide)⟩
theorem op_sm [Inhabited fz_] (h : TOP c M N) (j : SM2 dx nx ax dq nq aq M N) : JT dx nx ax dq nq aq M N (TOP (c + 1)) := JT_s j (TOP_m h)
theorem op_0 [Inhabited fz_] (h : TOP c M N) (hc : 0 ≤ c ∧ c ≤ 100) : JT 140 0 [.inr (.inr 0), .inl x1] 140 325 [.inr (.inr 6), .inl x1] M N (TOP (c + 1)) := by
  rcases h.2.2.1 with ⟨a, b⟩ | hr
  · refine JT_le (op_sm h ⟨-1, fun Qr Qt g => t_0 (d := 0) fun V hV hW => b_0_0 (Tr_mono _) hV hW _ _ fun _ => ?_, fun Qr Qt g => t_325 (d := 0) fun V hV hW => b_325_0 (Tr_mono _) hV hW _ _ fun _ => ?_⟩) (by decide) (by decide)
    · rw [if_pos a]; exact g
    · rw [if_pos b]; exact g
  · have := (h.2.2.2 hr.2.1).2.2.1
    exact JT_le (op_jn h hr (j_0 hr (by omega)) (by omega)) (by decide) (by decide)
theorem op_33 [Inhabited fz_] (h : TOP c M N) (hc : 0 ≤ c ∧ c ≤ 100) : JT 140 33 [.inr (.inr 0), .inl x1] 140 362 [.inr (.inr 6), .inl x1] M N (TOP (c + 1)) := by
  rcases h.2.2.1 with ⟨a, b⟩ | hr
  · refine JT_le (op_sm h ⟨-1, fun Qr Qt g => t_33 (d := 0) fun V hV hW => b_33_0 (Tr_mono _) hV hW _ _ fun _ => ?_, fun Qr Qt g => t_362 (d := 0) fun V hV hW => b_362_0 (Tr_mono _) hV hW _ _ fun _ => ?_⟩) (by decide) (by decide)
    · rw [if_pos a]; exact g
    · rw [if_pos b]; exact g
  · have := (h.2.2.2 hr.2.1).2.2.1
    exact JT_le (op_jn h hr (j_33 hr (by (clear h hr; lia))) (by omega)) (by decide) (by decide)
theorem op_34 [Inhabited fz_] (h : TOP c M N) (hc : 0 ≤ c ∧ c ≤ 100) (hx : R32 x2) : JT 140 34 [.inr (.inr 0), .inl x1, .inl x2] 140 363 [.inr (.inr 6), .inl x1, .inl x2] M N (TOP (c + 1)) := by
  rcases h.2.2.1 with ⟨a, b⟩ | hr
  · refine JT_le (op_sm h ⟨-1, fun Qr Qt g => t_34 (d := 0) fun V hV hW => b_34_0 (Tr_mono _) hV hW _ _ _ fun _ => ?_, fun Qr Qt g => t_363 (d := 0) fun V hV hW => b_363_0 (Tr_mono _) hV hW _ _ _ fun _ => ?_⟩) (by decide) (by decide)
    · rw [if_pos a]; exact g
    · rw [if_pos b]; exact g
  · have := (h.2.2.2 hr.2.1).2.2.1
    exact JT_le (op_jn h hr (j_34 hr (by omega) hx) (by omega)) (by decide) (by decide)
theorem op_58 [Inhabited fz_] (h : TOP c M N) : JT 140 58 [.inr (.inr 0), .inl x1] 140 366 [.inr (.inr 6), .inl x1] M N (TOP (c + 1)) := by
  rcases h.2.2.1 with ⟨a, b⟩ | hr
  · refine JT_le (op_sm h ⟨-1, fun Qr Qt g => t_58 (d := 0) fun V hV hW => b_58_0 (Tr_mono _) hV hW _ _ fun _ => ?_, fun Qr Qt g => t_366 (d := 0) fun V hV hW => b_366_0 (Tr_mono _) hV hW _ _ fun _ => ?_⟩) (by decide) (by decide)
    · rw [if_pos a]; exact g
    · rw [if_pos b]; exact g
  · exact JT_le (op_jn h hr (j_58 hr) (by omega)) (by decide) (by decide)
theorem op_59 [Inhabited fz_] (h : TOP c M N) (h3 : R32 x3) (h4 : R32 x4) (h5 : R32 x5) : JT 140 59 [.inr (.inr 0), .inl x1, .inl x2, .inl x3, .inl x4, .inl x5] 140 367 [.inr (.inr 6), .inl x1, .inl x2, .inl x3, .inl x4, .inl x5] M N (TOP (c + 1)) := by
  rcases h.2.2.1 with ⟨a, b⟩ | hr
  · refine JT_le (op_sm h ⟨-1, fun Qr Qt g => t_59 (d := 0) fun V hV hW => b_59_0 (Tr_mono _) hV hW _ _ _ _ _ _ fun _ => ?_, fun Qr Qt g => t_367 (d := 0) fun V hV hW => b_367_0 (Tr_mono _) hV hW _ _ _ _ _ _ fun _ => ?_⟩) (by decide) (by decide)
    · rw [if_pos a]; exact g
    · rw [if_pos b]; exact g
  · exact JT_le (op_jn h hr (j_59 hr h3 h4 h5) (by omega)) (by decide) (by decide)
theorem op_61 [Inhabited fz_] (h : TOP c M N) : JT 140 61 [.inr (.inr 0), .inl x1] 140 368 [.inr (.inr 6), .inl x1] M N (TOP (c + 1)) := JT_le (op_sm h (j_61 h.2.2.1)) (by decide) (by decide)
theorem op_63 [Inhabited fz_] (h : TOP c M N) : JT 140 63 [.inr (.inr 0), .inl x1, .inl x2] 140 371 [.inr (.inr 6), .inl x1, .inl x2] M N (TOP (c + 1)) := JT_le (op_sm h (j_63 h.2.2.1)) (by decide) (by decide)
theorem op_64 [Inhabited fz_] (h : TOP c M N) : JT 140 64 [.inr (.inr 0), .inl x1, .inl x2] 140 372 [.inr (.inr 6), .inl x1, .inl x2] M N (TOP (c + 1)) := JT_le (op_sm h (j_64 h.2.2.1)) (by decide) (by decide)
theorem op_65 [Inhabited fz_] (h : TOP c M N) : JT 140 65 [.inr (.inr 0), .inl x1, .inl x2, .inl x3] 140 373 [.inr (.inr 6), .inl x1, .inl x2, .inl x3] M N (TOP (c + 1)) := JT_le (op_sm h (j_65 h.2.2.1)) (by decide) (by decide)
theorem op_66 [Inhabited fz_] (h : TOP c M N) : JT 140 66 [.inr (.inr 0), .inl x1, .inl x2, .inl x3] 140 374 [.inr (.inr 6), .inl x1, .inl x2, .inl x3] M N (TOP (c + 1)) := JT_le (op_sm h (j_66 h.2.2.1)) (by decide) (by decide)
theorem op_67 [Inhabited fz_] (h : TOP c M N) : JT 140 67 [.inr (.inr 0), .inl x1, .inl x2] 140 375 [.inr (.inr 6), .inl x1, .inl x2] M N (TOP (c + 1)) := JT_le (op_sm h (j_67 h.2.2.1)) (by decide) (by decide)
theorem op_68 [Inhabited fz_] (h : TOP c M N) : JT 140 68 [.inr (.inr 0), .inl x1, .inl x2] 140 376 [.inr (.inr 6), .inl x1, .inl x2] M N (TOP (c + 1)) := JT_le (op_sm h (j_68 h.2.2.1)) (by decide) (by decide)
theorem op_70 [Inhabited fz_] (h : TOP c M N) : JT 140 70 [.inr (.inr 0), .inl x1] 140 377 [.inr (.inr 6), .inl x1] M N (TOP (c + 1)) := JT_le (op_sm h (j_70 h.2.2.1 h.1.2.2.2.1.1 (fun e => (h.2.2.2 e).2.1) h.1.1.1.1.1.1)) (by decide) (by decide)
theorem op_71 [Inhabited fz_] (h : TOP c M N) : JT 140 71 [.inr (.inr 0), .inl x1, .inl x2] 140 379 [.inr (.inr 6), .inl x1, .inl x2] M N (TOP (c + 1)) := JT_le (op_sm h (j_71 h.1.2.2.2.1.1)) (by decide) (by decide)
theorem op_B [Inhabited fz_] (h : TOP c M N) : ∃ B, M 0 4 = 1 → TSR M N B := by
  by_cases e : M 0 4 = 1
  · obtain ⟨_, _, _, B, a, _⟩ := h.2.2.2 e
    exact ⟨B, fun _ => a⟩
  · exact ⟨0, fun h => absurd h e⟩
theorem op_47 [Inhabited fz_] (h : TOP c M N) : JT 140 47 [.inr (.inr 0), .inl x1, .inl x2] 140 392 [.inr (.inr 6), .inl x1, .inl x2] M N (TOP (c + 1)) := by
  obtain ⟨B, hB⟩ := op_B h
  exact JT_le (op_sm h (j_47 h.2.2.1 hB)) (by decide) (by decide)
theorem op_48 [Inhabited fz_] (h : TOP c M N) : JT 140 48 [.inr (.inr 0), .inl x1, .inl x2, .inl x3] 140 393 [.inr (.inr 6), .inl x1, .inl x2, .inl x3] M N (TOP (c + 1)) := by
  obtain ⟨B, hB⟩ := op_B h
  exact JT_le (op_sm h (j_48 h.2.2.1 hB)) (by decide) (by decide)
theorem op_55 [Inhabited fz_] (h : TOP c M N) : JT 140 55 [.inr (.inr 0)] 140 319 [.inr (.inr 6)] M N (TOP (c + 1)) := JT_le (op_sm h (j_55 h.1.1.2)) (by decide) (by decide)
theorem op_56 [Inhabited fz_] (h : TOP c M N) : JT 140 56 [.inr (.inr 0), .inl x1, .inl x2] 140 320 [.inr (.inr 6), .inl x1, .inl x2] M N (TOP (c + 1)) := JT_le (op_sm h (j_56 h.1.2.2.2.1.2)) (by decide) (by decide)
theorem op_92 [Inhabited fz_] (h : TOP c M N) : JT 140 92 [.inr (.inr 0), .inl x1] 140 413 [.inr (.inr 6), .inl x1] M N (TOP (c + 1)) := JT_le (op_sm h (j_92 h.1.1.2)) (by decide) (by decide)
end OPc
end T447_op
section T448_op
/-! the calls of the law: begin, instance, search, visit, feed, chart -/
section OPd
variable {c x1 x2 x3 x4 x5 : Int} {M N M' N' : mm_}
theorem xb_x [Inhabited fz_] {L : List Nat} {I : List Int} (hL : ∀ r ∈ L, r = 0 ∨ (10 ≤ r ∧ r ≤ 41)) (hI : ∀ i ∈ [3, 6, 71, 96, 97], i ∉ I) (h : (∀ r : Nat, r ∉ L → M' r = M r) ∧ ∀ i : Int, i ∉ I → M' 0 i = M 0 i) : FXb M M' := ⟨fun r h0 h1 => h.1 r (fun e => by have := hL r e; omega), fun i hi => h.2 i (hI i hi)⟩
theorem qb_x [Inhabited fz_] {L : List Nat} {I : List Int} (hL : ∀ r ∈ L, r = 6 ∨ (239 ≤ r ∧ r ≤ 253)) (hI : ∀ i ∈ [3, 5, 6, 119, 120, 187, 188, 17, 18, 19, 62, 63, 75, 76, 90, 104], i ∉ I) (h : (∀ r : Nat, r ∉ L → N' r = N r) ∧ ∀ i : Int, i ∉ I → N' 6 i = N 6 i) : FQb N N' := ⟨fun r h0 h1 => h.1 r (fun e => by have := hL r e; omega), fun i hi => h.2 i (hI i hi)⟩
theorem op_57 [Inhabited fz_] (h : TOP c M N) (hc : 0 ≤ c) : JT 140 57 [.inr (.inr 0), .inl x1] 140 321 [.inr (.inr 6), .inl x1] M N (TOP (c + 1)) := by
  rcases h.1.2.2.2.1.1 with ⟨a, b⟩ | ⟨⟨a, b⟩, hP, hw⟩
  · refine JT_le (op_sm h ⟨-1, fun Qr Qt g => t_57 (d := 0) fun V hV hW => b_57_0 (Tr_mono _) hV hW _ _ fun _ => ?_, fun Qr Qt g => t_321 (d := 0) fun V hV hW => b_321_0 (Tr_mono _) hV hW _ _ fun _ => ?_⟩) (by decide) (by decide)
    · rw [if_pos a]; exact g
    · rw [if_pos b]; exact g
  · obtain ⟨v, M', N', x, q, rn, ⟨fx, fq⟩, b8, ⟨z1, z2, z3⟩, w1, w2, w3⟩ := j_57 (x1 := x1) ⟨a, b⟩ hP h.2.1
    have gx : FXb M M' := xb_x (by decide) (by decide) fx
    have gq : FQb N N' := qb_x (by decide) (by decide) fq
    refine JT_le (JT_e x q (FX_b gx) (FQ_b gq) ⟨TBS_f h.1 (by omega) gx gq, BAS_of rn, .inr rn, fun _ => ⟨by rw [gx.2 3 (by decide)]; exact a, ⟨by omega, ⟨by (clear h hc a b hP hw x q rn fx fq b8 z1 z3 w1 w3 gx gq; lia), by rw [w2]; exact .inl rfl⟩, by omega⟩, by omega, 0, .inl ⟨z1, w1⟩, by omega⟩⟩) (by decide) (by decide)
theorem op_62 [Inhabited fz_] (h : TOP c M N) : JT 140 62 [.inr (.inr 0), .inl x1, .inl x2] 140 369 [.inr (.inr 6), .inl x1, .inl x2] M N (TOP (c + 1)) := by
  obtain ⟨v, M', N', x, q, fx, fq⟩ := j_62 (x1 := x1) (x2 := x2) h.2.2.1
  have gx : FXb M M' := ⟨fun r h0 h1 => fx.1 r h0 (by omega), fun i hi => fx.2 i (fun e => by revert hi e; simp only [List.mem_cons, List.not_mem_nil, or_false]; omega)⟩
  have gq : FQb N N' := ⟨fun r h0 h1 => fq.1 r h0 (by omega), fun i hi => fq.2 i (fun e => by revert hi e; simp only [List.mem_cons, List.not_mem_nil, or_false]; omega)⟩
  have e4 := fx.2 4 (by decide)
  have e126 := fq.2 126 (by decide)
  refine JT_le (JT_e x q (FX_b gx) (FQ_b gq) ⟨TBS_f h.1 (by omega) gx gq, ?_, ?_, fun e => ?_⟩) (by decide) (by decide)
  · unfold BAS RG9
    rw [fx.1 24 (by decide) (by decide), fx.1 23 (by decide) (by decide), fq.1 241 (by decide) (by decide), fq.1 240 (by decide) (by decide), fq.1 239 (by decide) (by decide)]; exact h.2.1
  · rcases h.2.2.1 with ⟨a, b⟩ | ⟨⟨s1, s2, s3, s4⟩, r1, r2⟩
    · exact .inl ⟨by rw [e4]; exact a, by rw [e126]; exact b⟩
    · exact .inr ⟨⟨RU_eg s1 fx fq, PLr_c s2 (XRF_eg fx) (QRF_eg fq), TYA_eg s3 fq, by rw [fx.2 11 (by decide), fq.2 130 (by decide)]; exact s4⟩, by rw [e4]; exact r1, by rw [e126]; exact r2⟩
  · rw [e4] at e
    obtain ⟨a1, a2, a3, B, a4, a5⟩ := h.2.2.2 e
    have hP : PLr M N := by
      rcases h.2.2.1 with ⟨a, b⟩ | hr
      · omega
      · exact hr.1.2.1
    refine ⟨by rw [fx.2 3 (by decide)]; exact a1, ?_, by rw [fx.2 8 (by decide)]; (clear h x q fx fq gx gq e4 e126 e a1 a2 a4 a5 hP; lia), B, ?_, by omega⟩
    · unfold SCT
      rw [fx.2 62 (by decide), fx.2 63 (by decide), fx.2 64 (by decide), fq.2 163 (by decide), fq.2 169 (by decide), fq.2 164 (by decide)]; exact a2
    · exact TSR_c hP a4 (fx.2 62 (by decide)) (fq.2 163 (by decide)) (fun r hr => fx.1 r (fun e => by rw [e] at hr; revert hr; decide) (fun e => by rw [e] at hr; revert hr; decide)) (fun r hr => fq.1 r (fun e => by rw [e] at hr; revert hr; decide) (fun e => by rw [e] at hr; revert hr; decide)) ⟨fq.2 18 (by decide), fq.2 19 (by decide), fq.2 17 (by decide)⟩
theorem op_37 [Inhabited fz_] (h : TOP c M N) (hc : 0 ≤ c ∧ c ≤ 100) : JT 140 37 [.inr (.inr 0), .inl x1] 140 380 [.inr (.inr 6), .inl x1] M N (TOP (c + 1)) := by
  rcases h.2.2.1 with ⟨a, b⟩ | hr
  · refine JT_le (op_sm h ⟨-1, fun Qr Qt g => t_37 (d := 0) fun V hV hW => b_37_0 (Tr_mono _) hV hW _ _ fun _ => ?_, fun Qr Qt g => t_380 (d := 0) fun V hV hW => b_380_0 (Tr_mono _) hV hW _ _ fun _ => ?_⟩) (by decide) (by decide)
    · rw [if_pos a]; exact g
    · rw [if_pos b]; exact g
  · obtain ⟨a1, a2, a3, B, a4, a5⟩ := h.2.2.2 hr.2.1
    obtain ⟨v, M', N', x, q, rn, ⟨fx, fq⟩, b8, hs⟩ := j_37 inferInstance (x1 := x1) hr (by omega)
    rcases hs with ⟨e1, e2⟩ | ⟨hs, ht⟩
    · rw [e1] at x
      rw [e2] at q
      exact JT_le (op_sm h ⟨v, x, q⟩) (by decide) (by decide)
    · have gx : FXb M M' := xb_x (L := sxA ++ xuL) (I := 62 :: 63 :: 64 :: 65 :: 69 :: xfL) (by decide) (by decide) ⟨fun r hr => fx.1 r (fun e => hr (List.mem_append_left _ e)) (fun e => hr (List.mem_append_right _ e)), fx.2⟩
      have gq : FQb N N' := qb_x (L := sqA ++ quL) (I := 163 :: 164 :: 165 :: 166 :: 167 :: 168 :: 169 :: qfL) (by decide) (by decide) ⟨fun r hr => fq.1 r (fun e => hr (List.mem_append_left _ e)) (fun e => hr (List.mem_append_right _ e)), fq.2⟩
      exact JT_le (JT_e x q (FX_b gx) (FQ_b gq) ⟨TBS_f h.1 (by omega) gx gq, BAS_of rn, .inr rn, fun _ => ⟨by rw [gx.2 3 (by decide)]; exact a1, ht, by omega, M 0 8, .inr hs, by (clear h hc hr a1 a2 a4 a5 x q rn fx fq hs ht gx gq; lia)⟩⟩) (by decide) (by decide)
theorem op_50 [Inhabited fz_] (h : TOP c M N) (hc : 0 ≤ c ∧ c ≤ 100) : JT 140 50 [.inr (.inr 0), .inl x1] 140 396 [.inr (.inr 6), .inl x1] M N (TOP (c + 1)) := by
  rcases h.2.2.1 with ⟨a, b⟩ | hr
  · refine JT_le (op_sm h ⟨-1, fun Qr Qt g => t_50 (d := 0) fun V hV hW => b_50_0 (Tr_mono _) hV hW _ _ fun _ => ?_, fun Qr Qt g => t_396 (d := 0) fun V hV hW => b_396_0 (Tr_mono _) hV hW _ _ fun _ => ?_⟩) (by decide) (by decide)
    · rw [if_pos a]; exact g
    · rw [if_pos b]; exact g
  · obtain ⟨a1, a2, a3, B, a4, a5⟩ := h.2.2.2 hr.2.1
    obtain ⟨v, M', N', x, q, rn, ⟨f1, f2, f3, f4⟩, b8, ht⟩ := j_50 (x1 := x1) hr a4 (by omega)
    have gx : FXb M M' := xb_x (L := xuL) (I := 11 :: 65 :: xfL) (by decide) (by decide) ⟨f1, f2⟩
    have gq : FQb N N' := qb_x (L := quL) (I := 130 :: qfL) (by decide) (by decide) ⟨f3, f4⟩
    refine JT_le (JT_e x q (FX_b gx) (FQ_b gq) ⟨TBS_f h.1 (by omega) gx gq, BAS_of rn, .inr rn, fun _ => ⟨by rw [gx.2 3 (by decide)]; exact a1, ?_, by omega, B, ht, by (clear h hc hr a1 a2 a3 a4 x q rn f1 f2 f3 f4 b8 ht gx gq; lia)⟩⟩) (by decide) (by decide)
    unfold SCT
    rw [f2 62 (by decide), f2 63 (by decide), f2 64 (by decide), f4 163 (by decide), f4 169 (by decide), f4 164 (by decide)]; exact a2
end OPd
end T448_op
section T449_op
/-! the calls of the law: feed, chart -/
section OPe
variable {c c' x1 x2 x3 x4 x5 : Int} {M N M' N' : mm_}
theorem TRN_f [Inhabited fz_] (h : TRN c M N) (hc : c ≤ c') (hx : ∀ r : Nat, (10 ≤ r ∧ r ≤ 41) ∨ r = 4 ∨ (79 ≤ r ∧ r ≤ 111) → M' r = M r) (h0 : ∀ i : Int, i ∈ 3 :: 4 :: 11 :: 62 :: 63 :: 64 :: rfX → M' 0 i = M 0 i) (hq : ∀ r : Nat, 152 ≤ r → r ≤ 253 → N' r = N r) (h6 : ∀ i : Int, i ∈ 126 :: 130 :: 163 :: 164 :: 169 :: 17 :: 62 :: 63 :: 75 :: 76 :: 90 :: 104 :: rfQ → N' 6 i = N 6 i) : TRN c' M' N' := by
  have x4 : swc M' = swc M := swc_f (hx 4 (by decide)) (fun r a b => hx r (by omega))
  have qt : tbN N' = tbN N := tbN_f (fun r a b => hq r (by omega) (by omega)) (fun i hi => h6 i (by revert hi; unfold tfL rfQ; simp only [List.mem_cons, List.not_mem_nil, or_false]; (clear h hc hx h0 hq h6 x4; lia)))
  have e4 := h0 4 (by decide)
  have e126 := h6 126 (by decide)
  obtain ⟨h1, h2, h3⟩ := h
  have pl : PLr M N → PLr M' N' := fun p => by unfold PLr; rw [x4, qt]; exact p
  refine ⟨?_, ?_, fun e => ?_⟩
  · unfold BAS RG9
    rw [hx 24 (by decide), hx 23 (by decide), hq 241 (by decide) (by decide), hq 240 (by decide) (by decide), hq 239 (by decide) (by decide)]; exact h1
  · rcases h2 with ⟨a, b⟩ | ⟨⟨s1, s2, s3, s4⟩, r1, r2⟩
    · exact .inl ⟨by rw [e4]; exact a, by rw [e126]; exact b⟩
    · refine .inr ⟨⟨RU_cc s1 (fun r hr => hx r (by revert hr; simp only [List.mem_cons, List.not_mem_nil, or_false]; (clear hc hx h0 hq h6 x4 qt e4 e126 h1 h3 pl s1 s2 s3 s4 r1 r2; omega))) (fun i hi => h0 i (by simp only [List.mem_cons]; simp only [hi, or_true])) (fun r hr => hq r (by revert hr; simp only [List.mem_cons, List.not_mem_nil, or_false]; (clear hc hx h0 hq h6 x4 qt e4 e126 h1 h3 pl s1 s2 s3 s4 r1 r2; omega)) (by revert hr; simp only [List.mem_cons, List.not_mem_nil, or_false]; omega)) (fun i hi => h6 i (by simp only [List.mem_cons]; simp only [hi, or_true])), pl s2, TYA_c s3 ⟨fun r hr => hq r (by revert hr; simp only [List.mem_cons, List.not_mem_nil, or_false]; (clear hc hx h0 hq h6 x4 qt e4 e126 h1 h3 pl s1 s2 s3 s4 r1 r2; omega)) (by revert hr; simp only [List.mem_cons, List.not_mem_nil, or_false]; omega), h6 18 (by decide), h6 17 (by decide)⟩ (hq 239 (by decide) (by decide)), by rw [h0 11 (by decide), h6 130 (by decide)]; exact s4⟩, by rw [e4]; exact r1, by rw [e126]; exact r2⟩
  · rw [e4] at e
    obtain ⟨a1, a2, a3, B, a4, a5⟩ := h3 e
    have hP : PLr M N := by
      rcases h2 with ⟨a, b⟩ | hr
      · omega
      · exact hr.1.2.1
    refine ⟨by rw [h0 3 (by decide)]; exact a1, ?_, by rw [h0 8 (by decide)]; (clear hx h0 hq h6 x4 qt e4 e126 h1 h2 h3 pl e a1 a2 a4 a5 hP; lia), B, ?_, by (clear hx h0 hq h6 x4 qt e4 e126 h1 h2 h3 pl e a1 a2 a3 a4 hP; lia)⟩
    · unfold SCT
      rw [h0 62 (by decide), h0 63 (by decide), h0 64 (by decide), h6 163 (by decide), h6 169 (by decide), h6 164 (by decide)]; exact a2
    · exact TSR_c hP a4 (h0 62 (by decide)) (h6 163 (by decide)) (fun r hr => hx r (by revert hr; simp only [List.mem_cons, List.not_mem_nil, or_false]; (clear hc hx h0 hq h6 x4 qt e4 e126 h1 h2 h3 pl e a1 a2 a3 a4 a5 hP; lia))) (fun r hr => hq r (by revert hr; simp only [List.mem_cons, List.not_mem_nil, or_false]; omega) (by revert hr; simp only [List.mem_cons, List.not_mem_nil, or_false]; (clear hc hx h0 hq h6 x4 qt e4 e126 h1 h2 h3 pl e a1 a2 a3 a4 a5 hP; omega))) ⟨h6 18 (by decide), h6 19 (by decide), h6 17 (by decide)⟩
theorem TBS_g [Inhabited fz_] (h : TBS c M N) (hc : c ≤ c') (hT : TPB M' N') (hC : CPR M' N') (b74 : BY M' 74) (b146 : BY N' 146) (hx : ∀ r : Nat, 1000 ≤ r ∨ r = 69 ∨ r = 1 ∨ r = 4 ∨ r = 42 ∨ r = 43 ∨ (79 ≤ r ∧ r ≤ 111) → M' r = M r) (h3 : M' 0 3 = M 0 3) (hq : ∀ r : Nat, r = 147 ∨ r = 148 ∨ (152 ≤ r ∧ r ≤ 236) → N' r = N r) (q6 : ∀ i : Int, i ∈ [5, 6, 120, 17, 18, 19, 62, 63, 75, 76, 90, 104] → N' 6 i = N 6 i) : TBS c' M' N' := by
  obtain ⟨_, ⟨r1, r2, r3, r4, r5, r6⟩, m7, ⟨ld, wn⟩, nq⟩ := h
  have x4 : swc M' = swc M := swc_f (hx 4 (by decide)) (fun r a b => hx r (by (clear hc hT hC b74 b146 hx h3 hq q6 r1 r2 r3 r4 r5 r6 m7 nq ld wn; omega)))
  have qt : tbN N' = tbN N := tbN_f (fun r a b => hq r (by omega)) (fun i hi => q6 i (by revert hi; unfold tfL; simp only [List.mem_cons, List.not_mem_nil, or_false]; (clear hc hT hC b74 b146 hx h3 hq q6 r1 r2 r3 r4 r5 r6 m7 nq ld wn x4; lia)))
  refine ⟨⟨hT, hC⟩, ⟨?_, ?_, BY_c r3 (hx 69 (by decide)), b74, b146, BY_c r6 (hq 147 (by decide))⟩, by rw [hx 1 (by decide)]; (clear hT hC b74 b146 hx h3 hq q6 r1 r2 r3 r4 r5 r6 nq ld wn x4 qt; lia), ⟨?_, ?_⟩, ?_⟩
  · unfold RO_
    rw [hx 1001 (by decide), hx 1002 (by decide), hx 1011 (by decide), hx 1012 (by decide)]; exact r1
  · unfold Wd_
    rw [hq 148 (by decide)]; exact r2
  · unfold LDD PLr
    rw [h3, q6 6 (by decide), x4, qt, hx 4 (by decide), q6 120 (by decide)]; exact ld
  · unfold WNR
    rw [h3, q6 120 (by decide), hx 4 (by decide), hx 110 (by decide), hx 111 (by decide), hq 235 (by decide), hq 236 (by decide)]; exact wn
  · rw [h3]
    intro e
    obtain ⟨n1, Mg, Mp, n, g1, g2, g3⟩ := nq e
    refine ⟨?_, Mg, Mp, n, ?_, g2, by rw [hx 4 (by decide)]; exact g3.1, fun r h0 h1 => by rw [hx r (by (clear hc hT hC b74 b146 hx h3 hq q6 r1 r2 r3 r4 r5 r6 m7 nq ld wn x4 qt e n1 g1 g2 g3; omega))]; exact g3.2.1 r h0 h1, by unfold LDN; rw [hx 4 (by decide), hx 42 (by decide), hx 43 (by decide)]; exact g3.2.2.1, g3.2.2.2⟩
    · unfold NMQ
      rw [hx 4 (by decide), hx 42 (by decide), hx 43 (by decide), q6 17 (by decide), hq 152 (by decide)]; exact n1
    · rw [q6 5 (by decide), hq 147 (by decide)]; exact g1
theorem op_52 [Inhabited fz_] (h : TOP c M N) : JT 140 52 [.inr (.inr 0), .inl x1, .inl x2, .inl x3, .inl x4, .inl x5] 140 214 [.inr (.inr 6), .inl x1, .inl x2, .inl x3, .inl x4, .inl x5] M N (TOP (c + 1)) := by
  obtain ⟨v, M', N', x, q, t, fx, fq⟩ := j_52 (x1 := x1) (x2 := x2) (x3 := x3) (x4 := x4) (x5 := x5) h.1.1.1
  have xr : ∀ r : Nat, r ≠ 0 → r ≠ 9 → M' r = M r := fun r a b => fx.1 r (by simp only [List.mem_cons, List.not_mem_nil, or_false]; (clear h x q t fx fq; lia))
  have qr : ∀ r : Nat, r ≠ 6 → r ≠ 145 → N' r = N r := fun r a b => fq.1 r (by simp only [List.mem_cons, List.not_mem_nil, or_false]; (clear h x q t fx fq xr; lia))
  have cp := h.1.1.2
  refine JT_le (JT_e x q (fun r hr => xr r (by (clear h x q t fx fq xr qr cp; omega)) (by omega)) (fun r hr => qr r (by (clear h x q t fx fq xr qr cp; lia)) (by omega)) ⟨TBS_g h.1 (by omega) t ?_ (BY_c h.1.2.1.2.2.2.1 (xr 74 (by decide) (by decide))) (BY_c h.1.2.1.2.2.2.2.1 (qr 146 (by decide) (by decide))) (fun r hr => xr r (by omega) (by omega)) (fx.2 3 (by decide)) (fun r hr => qr r (by omega) (by (clear h x q t fx fq xr qr cp; omega))) (fun i hi => fq.2 i (fun e => by rw [e] at hi; revert hi; decide)), TRN_f h.2 (by omega) (fun r hr => xr r (by omega) (by omega)) (fun i hi => fx.2 i (fun e => by rw [e] at hi; revert hi; decide)) (fun r a b => qr r (by (clear h x q t fx fq xr qr cp; lia)) (by (clear h x q t fx fq xr qr cp; lia))) (fun i hi => fq.2 i (fun e => by rw [e] at hi; revert hi; decide))⟩) (by decide) (by decide)
  unfold CPR
  rw [fx.2 71 (by decide), fx.2 96 (by decide), fx.2 97 (by decide), fq.2 119 (by decide), fq.2 187 (by decide), fq.2 188 (by decide)]; exact cp
theorem nm_l [Inhabited fz_] {L K : List Int} (h : ∀ i ∈ K, i ∉ L) {i : Int} (hi : i ∈ K) : i ∉ L := h i hi
theorem op_72 [Inhabited fz_] (h : TOP c M N) : JT 140 72 [.inr (.inr 0), .inl x1] 140 397 [.inr (.inr 6), .inl x1] M N (TOP (c + 1)) := by
  obtain ⟨⟨⟨hT, b9, b145⟩, hC⟩, ⟨r1, r2, r3, r4, r5, r6⟩, m7, ⟨ld, wn⟩, nq⟩ := id h.1
  have hr : (M 0 4 = 0 ∧ N 6 126 = 0) ∨ ((M 0 4 = 1 ∧ N 6 126 = 1) ∧ NMQ M N ∧ EVT M N) := by
    rcases h.2.2.1 with a | hr
    · exact .inl a
    · have e := hr.1.1.2.2.2.2
      exact .inr ⟨⟨hr.2.1, hr.2.2⟩, (nq (h.2.2.2 hr.2.1).1).1, ⟨e.1.1, e.1.2.1, e.1.2.2.1, e.1.2.2.2.1⟩, fun i i0 i1 => (e.2 i i0 i1).1⟩
  have j := j_72 (x1 := x1) hT hC r1 r2 b9 b145 r4 r5 hr
  refine Tr_le (d := 13) (by decide) (Tr_m j (fun vs M' g => ?_) (fun _ _ h => h))
  obtain ⟨v, e, N', q, fx, fq, cp, tp, y74, y146⟩ := g
  have xr : ∀ r : Nat, ¬ (r = 0 ∨ r = 3 ∨ (44 ≤ r ∧ r ≤ 54) ∨ (74 ≤ r ∧ r ≤ 78)) → M' r = M r := fun r a => fx.1 r (by unfold xchL; simp only [List.mem_cons, List.not_mem_nil, or_false]; (clear h hC hT b9 b145 r1 r2 r3 r4 r5 r6 m7 nq ld wn hr j e q fx fq cp tp y74 y146; omega))
  have qr : ∀ r : Nat, ¬ (r = 6 ∨ r = 146 ∨ (149 ≤ r ∧ r ≤ 151) ∨ (254 ≤ r ∧ r ≤ 266)) → N' r = N r := fun r a => fq.1 r (by unfold qchL; simp only [List.mem_cons, List.not_mem_nil, or_false]; omega)
  rw [e]
  refine ri_i ⟨fun r hr => xr r (by (clear h hC hT b9 b145 r1 r2 r3 r4 r5 r6 m7 nq ld wn j e q fx fq cp tp y74 y146 xr qr; omega)), Tr_le (d := 7) (by decide) (q _ _ (ri_i ⟨rfl, fun r hr => qr r (by (clear h hC hT b9 b145 r1 r2 r3 r4 r5 r6 m7 nq ld wn j e q fx fq cp tp y74 y146 xr qr; omega)), ⟨TBS_g h.1 (by (clear h hC hT b9 b145 r1 r2 r3 r4 r5 r6 m7 nq ld wn hr j e q fx fq cp tp y74 y146 xr qr; omega)) ⟨tp, BY_c b9 (xr 9 (by (clear h hC hT b9 b145 r1 r2 r3 r4 r5 r6 m7 nq ld wn hr j e q fx fq cp tp y74 y146 xr qr; lia))), BY_c b145 (qr 145 (by (clear h hC hT b9 b145 r1 r2 r3 r4 r5 r6 m7 nq ld wn hr j e q fx fq cp tp y74 y146 xr qr; lia)))⟩ cp y74 y146 (fun r hr => xr r (by (clear h hC hT b9 b145 r1 r2 r3 r4 r5 r6 m7 nq ld wn j e q fx fq cp tp y74 y146 xr qr; omega))) (fx.2 3 (by decide)) (fun r hr => qr r (by omega)) (fun i hi => fq.2 i (nm_l (by decide) hi)), TRN_f h.2 (by omega) (fun r hr => xr r (by (clear h hC hT b9 b145 r1 r2 r3 r4 r5 r6 m7 nq ld wn j e q fx fq cp tp y74 y146 xr qr; lia))) (fun i hi => fx.2 i (nm_l (by decide) hi)) (fun r a b => qr r (by (clear h hC hT b9 b145 r1 r2 r3 r4 r5 r6 m7 nq ld wn hr j e q fx fq cp tp y74 y146 xr qr; omega))) (fun i hi => fq.2 i (nm_l (by decide) hi))⟩⟩))⟩
end OPe
end T449_op
section T450_ng
/-! no miracles in Q's parse, where switches are 0 or 1 and bytes are bytes -/
def ngS : List Nat := [211, 212, 213, 218, 219, 220, 221, 222, 223, 224, 225, 226, 227, 228, 229, 230, 231, 232, 233, 234, 235, 236, 237, 238, 239, 240, 241, 242, 243, 244, 245, 246, 247, 248, 249, 250, 251, 252, 253, 254, 255, 256, 257, 258, 259, 260, 261, 262, 263, 264, 265, 266, 267, 268, 269, 270, 271, 272, 273, 274, 275, 276, 277, 278, 279, 280, 281, 282, 283, 284, 285, 286, 287, 288, 289, 290, 291, 292, 293, 294, 295, 296, 297, 298, 299, 300, 301, 302, 303, 304, 305, 306, 307, 308, 309, 310, 311, 312, 313, 314, 315]
def ngB : List Int := [6, 16, 103, 109, 126, 127, 169]
def GBA (M : mm_) : Prop := GB M ∧ ∀ b ∈ ngB, bl_ (M 6 b)
def ngI (e : Instr × Nat × Nat × Int × List (Int × Nat)) : Bool := match e.1 with
  | .getfield _ => !(e.2.2.1 == 1) || (ngB.contains e.2.2.2.1 && e.2.2.2.2.all (fun q => q.1 == 6))
  | .putfield _ => e.2.2.2.2.all (fun q => q.1 == 6) && ((e.2.2.1 == 1) || (e.2.2.1 == 0 && !(ngB.contains e.2.2.2.1)))
  | .invokevirtual _ => ngS.contains e.2.2.1
  | .invokestatic _ => ngS.contains e.2.2.1
  | _ => true
section NGa
variable {D : ca_}
theorem ng6 [Inhabited fz_] : ¬ (wd0.2.2.2.1 6 = 1 ∨ wd0.2.2.2.1 6 = 2 ∨ wd0.2.2.2.1 6 = 3 ∨ wd0.2.2.2.1 6 = 4) := by decide
theorem GBA_up [Inhabited fz_] {M : mm_} {r : Nat} {k x : Int} (h : GBA M) (h2 : wd0.2.2.2.1 r = 2 → -128 ≤ x ∧ x ≤ 127) (h3 : wd0.2.2.2.1 r = 3 → bl_ x) (h6 : r = 6 → k ∈ ngB → bl_ x) : GBA (up_ M r k x) := by
  refine ⟨fun q i => ?_, fun b hb => ?_⟩
  · by_cases e : q = r
    · subst e
      by_cases c : i = k
      · subst c; rw [up_at]; exact ⟨h2, h3⟩
      · rw [upo c]; exact h.1 q i
    · rw [up_ne e]; exact h.1 q i
  · by_cases e : (6 : Nat) = r
    · subst e
      by_cases c : b = k
      · subst c; rw [up_at]; exact h6 rfl hb
      · rw [upo c]; exact h.2 b hb
    · rw [up_ne e]; exact h.2 b hb
theorem th_ng [Inhabited fz_] {hs : List (Nat × Nat × Nat)} {pc : Nat} {ls : lo_} {r : Nat} {M : mm_} (h : th_ (fun _ _ _ M => ¬ GBA M) (fun _ M => ¬ GBA M) hs pc ls r M) : ¬ GBA M := by
  unfold th_ at h
  cases e : hd_ hs pc with
  | none => rw [e] at h; exact h
  | some q => rw [e] at h; exact h.2
theorem rk_ng [Inhabited fz_] {k pc : Nat} {ls : lo_} {st : List pv_} {vs : List pv_} {M : mm_} (h : rk_ (fun _ _ _ M => ¬ GBA M) k pc ls st vs M) : ¬ GBA M := by
  unfold rk_ at h
  split at h
  · exact h.2
  · obtain ⟨x, _, h⟩ := h; exact h
  · obtain ⟨x, _, h⟩ := h; exact h
  · obtain ⟨x, _, h⟩ := h; exact h
theorem cl_ng [Inhabited fz_] (hD : ∀ a as M Qr Qt, a ∈ ngS → (∀ vs M, Qr vs M → ¬ GBA M) → (∀ r M, Qt r M → ¬ GBA M) → GBA M → ¬ D a as M Qr Qt) {hs : List (Nat × Nat × Nat)} {pc a n k : Nat} {ls : lo_} {st : List pv_} {M : mm_} (ha : a ∈ ngS) (gM : GBA M) (h : cl_ D (fun _ _ _ M => ¬ GBA M) (fun _ M => ¬ GBA M) hs pc a n k ls st M) : False := by
  unfold cl_ at h
  split at h
  · exact hD a _ _ _ _ ha (fun vs M g => rk_ng g) (fun r M g => th_ng g) gM h
  · exact h
theorem fd_6 [Inhabited fz_] : ∀ {tb : List (Int × Nat)} {r t : Nat}, tb.all (fun q => q.1 == 6) = true → fd_ tb r = some t → r = 6
  | [], r, t, _, h => by unfold fd_ at h; exact absurd h (by simp)
  | q :: tb, r, t, ha, h => by
    rw [List.all_cons, Bool.and_eq_true] at ha
    unfold fd_ at h
    split at h
    · rename_i e
      have := beq_iff_eq.1 ha.1
      omega
    · exact fd_6 ha.2 h
set_option maxHeartbeats 4000000 in
theorem ex_ng [Inhabited fz_] (hD : ∀ a as M Qr Qt, a ∈ ngS → (∀ vs M, Qr vs M → ¬ GBA M) → (∀ r M, Qt r M → ¬ GBA M) → GBA M → ¬ D a as M Qr Qt) {m : md_} {pc len a : Nat} {i : Instr} {b : Int} {tb : List (Int × Nat)} {ls : lo_} {st : List pv_} {M : mm_} (gM : GBA M) (hi : ngI (i, len, a, b, tb) = true) (h : ex_ wd0 D (fun _ _ _ M => ¬ GBA M) (fun _ M => ¬ GBA M) (fun _ M => ¬ GBA M) m pc i len a b tb ls st M) : False := by
  revert h hi
  cases i <;> simp only [ex_, ngI]
  all_goals first
    | exact fun _ h => h gM
    | exact fun _ h => h
    | exact fun h => absurd h (by decide)
    | skip
  all_goals (repeat' split)
  all_goals first
    | exact fun _ h => h gM
    | exact fun _ h => h
    | exact fun _ h => h.2 gM
    | exact fun h => absurd h (by decide)
    | exact fun _ h => h.2 ((gM.1 _ _).1 (by assumption)) gM
    | exact fun _ h => h.2 ((gM.1 _ _).2 (by assumption)) gM
    | exact fun _ h => sw_nx (fun _ h => h gM) h
    | exact fun _ h => th_ng h gM
    | exact fun g h => cl_ng hD (List.contains_iff_mem.1 g) gM h
    | exact fun _ h => h.2 (GBA_up gM (fun c => by omega) (fun c => by omega) (fun e => by subst e; have := ng6; omega))
    | exact fun _ h => h.2 (GBA_up gM (fun _ => h.1.2) (fun c => by omega) (fun e => by subst e; have := ng6; omega))
    | exact fun _ h => h.2 (GBA_up gM (fun c => by omega) (fun _ => h.1.2) (fun e => by subst e; have := ng6; omega))
    | (intro g h
       have g2 : (ngB.contains b && tb.all (fun q => q.1 == 6)) = true := g
       rw [Bool.and_eq_true] at g2
       have e := fd_6 g2.2 (by assumption)
       subst e
       exact h (gM.2 b (List.contains_iff_mem.1 g2.1)) gM)
    | (intro g h
       rw [Bool.and_eq_true] at g
       have e := fd_6 g.1 (by assumption)
       subst e
       have g2 : (!(ngB.contains b)) = true := g.2
       exact h (GBA_up gM (fun c => absurd c (by decide)) (fun c => absurd c (by decide)) (fun _ hb => by rw [List.contains_iff_mem.2 hb] at g2; exact absurd g2 (by decide))))
    | (intro g h
       rw [Bool.and_eq_true] at g
       have e := fd_6 g.1 (by assumption)
       subst e
       exact h.2 (GBA_up gM (fun c => absurd c (by decide)) (fun c => absurd c (by decide)) (fun _ _ => h.1)))
    | (intro g; rw [Bool.and_eq_true] at g; exact absurd g.2 (by decide))
    | (intro g; rw [Bool.and_eq_true] at g; exact absurd (show false = true from g.2) (by decide))
    | skip
theorem lk_ng [Inhabited fz_] : ∀ (l : List en_) {pc : Nat} {e : Instr × Nat × Nat × Int × List (Int × Nat)}, l.all (fun q => ngI q.2) = true → lk_ l pc = some e → ngI e = true
  | [], pc, e, _, h => by unfold lk_ at h; exact absurd h (by simp)
  | q :: t, pc, e, ha, h => by
    rw [List.all_cons, Bool.and_eq_true] at ha
    unfold lk_ at h
    split at h
    · injection h with h; rw [← h]; exact ha.1
    · exact lk_ng t ha.2 h
theorem ngal [Inhabited fz_] : ngS.all (fun n => (pg0 n).1.all (fun q => ngI q.2)) = true := by decide +kernel
theorem ngok [Inhabited fz_] : ∀ n, n ∈ ngS → (pg0 n).1.all (fun q => ngI q.2) = true := fun n hn => List.all_eq_true.1 ngal n hn
theorem Tr_ng [Inhabited fz_] : ∀ (d : Nat) (n : Nat) (as : List pv_) (M : mm_) (Qr : qr_) (Qt : qt_), n ∈ ngS → (∀ vs M, Qr vs M → ¬ GBA M) → (∀ r M, Qt r M → ¬ GBA M) → GBA M → ¬ Tr_ wd0 pg0 d n as M Qr Qt
  | 0, n, as, M, Qr, Qt, _, _, _, _ => fun h => h
  | d + 1, n, as, M, Qr, Qt, hn, hr, ht, gM => fun h => by
    have h := h.2
    refine h (fun _ _ _ M => ¬ GBA M) (fun pc ls st M hs => ?_) (fun _ _ _ _ _ _ h => h) gM
    intro gM
    have hs2 : st_ wd0 (Tr_ wd0 pg0 d) (fun _ _ _ M => ¬ GBA M) (fun _ M => ¬ GBA M) (fun _ M => ¬ GBA M) (pg0 n) pc ls st M := st_mono (Tr_mono d) (fun _ _ _ _ g => g) (fun vs M g => hr vs M g) (fun r M g => ht r M g) hs
    unfold st_ at hs2
    cases e : lk_ (pg0 n).1 pc with
    | none => rw [e] at hs2; exact hs2
    | some q =>
      rw [e] at hs2
      exact ex_ng (fun a as M Qr Qt ha h1 h2 g => Tr_ng d a as M Qr Qt ha h1 h2 g) gM (lk_ng _ (ngok n hn) e) hs2
end NGa
end T450_ng
section T451_xl
/-! load: X's reading by itself -/
section SWa
variable {M N M' N' M1 N1 : mm_} {n : Int}
theorem swM_r [Inhabited fz_] {r : Nat} (h1 : r ≠ 1) (h4 : r ≠ 4) (h5 : r ≠ 5) (h : ¬ (79 ≤ r ∧ r ≤ 144)) : swM M r = M r := by
  unfold swM
  rw [if_neg h4, if_neg h5, if_neg (by (clear h1 h4 h5; omega)), if_neg (by omega), if_neg h1]
theorem swM_p [Inhabited fz_] {r : Nat} (h : 79 ≤ r) (h' : r ≤ 111) : swM M r = M (r + 33) := by
  unfold swM
  rw [if_neg (by omega), if_neg (by omega), if_pos ⟨h, h'⟩]
theorem swM_4 [Inhabited fz_] : swM M 4 = M 5 := rfl
theorem swM_1 [Inhabited fz_] {i : Int} (h : i ≠ 2) : swM M 1 i = M 1 i := by
  show (if i = 2 then 4 else M 1 i) = M 1 i
  rw [if_neg h]
/-- what load needs of a clean parse -/
theorem PLA_L [Inhabited fz_] (h : PLA M N) (hb : BY M 69) : LDP (swM M) ∧ M 1 2 = 5 := by
  obtain ⟨ig, F, a, ⟨S, _⟩, _, _, _, _, _, tk⟩ := h
  obtain ⟨⟨⟨tks, hE, m12⟩, ⟨sg, _⟩, _⟩, _⟩ := S
  obtain ⟨⟨s1, s2, s3⟩, s4⟩ := sg.1
  have e : ∀ r : Nat, r ∈ [56, 69, 70, 71, 72] → swM M r = M r := fun r hr => swM_r (by revert hr; simp only [List.mem_cons, List.not_mem_nil, or_false]; (clear hb tk tks hE m12 sg s4 s1 s2 s3; omega)) (by revert hr; simp only [List.mem_cons, List.not_mem_nil, or_false]; omega) (by revert hr; simp only [List.mem_cons, List.not_mem_nil, or_false]; (clear hb tk tks hE m12 sg s4 s1 s2 s3; omega)) (by revert hr; simp only [List.mem_cons, List.not_mem_nil, or_false]; omega)
  refine ⟨⟨⟨s1, s2⟩, fun s s0 s9 => ?_, ?_⟩, m12⟩
  · rw [e 56 (by decide), e 71 (by decide), e 72 (by decide)]
    obtain ⟨⟨g1, g2⟩, _⟩ := s4 s s0 s9
    obtain ⟨_, _, t3, t4⟩ := tk _ g1 g2
    have b := (tks _ g1).2.2.2.1
    exact ⟨⟨g1.1, by have := g1.2.1; (clear hb tk tks hE m12 sg s4 s1 s2 s3 e s0 s9 g1 g2 t3 t4 b; omega)⟩, ⟨t3, t4⟩, b.1, b.2.2⟩
  · rw [e 69 (by decide)]; exact hb
def nqM (f : Int → Int) (n : Int) : mm_ := fun r => if r = 6 then (fun i => if i = 4 then n else 0) else if r = 146 then (fun i => if 0 ≤ i ∧ i < 5000 then f i else 0) else if r = 148 then (fun i => pWh i.toNat) else fun _ => 0
theorem nqM_g [Inhabited fz_] {f : Int → Int} (hb : ∀ i, 0 ≤ i → i < 5000 → -128 ≤ f i ∧ f i ≤ 127) : GBA (nqM f n) := by
  have k6 : wd0.2.2.2.1 6 ≠ 2 ∧ wd0.2.2.2.1 6 ≠ 3 := by decide
  have k146 : wd0.2.2.2.1 146 ≠ 3 := by decide
  have k148 : wd0.2.2.2.1 148 ≠ 2 ∧ wd0.2.2.2.1 148 ≠ 3 := by decide
  refine ⟨fun r i => ?_, fun b hb => ?_⟩
  · unfold nqM
    by_cases c : r = 6
    · rw [c]; exact ⟨fun e => absurd e k6.1, fun e => absurd e k6.2⟩
    · rw [if_neg c]
      by_cases c1 : r = 146
      · rw [if_pos c1]
        refine ⟨fun _ => ?_, fun e => by rw [c1] at e; exact absurd e k146⟩
        by_cases ci : 0 ≤ i ∧ i < 5000
        · rw [if_pos ci]; exact hb i ci.1 ci.2
        · rw [if_neg ci]; decide
      · rw [if_neg c1]
        by_cases c2 : r = 148
        · rw [c2]; exact ⟨fun e => absurd e k148.1, fun e => absurd e k148.2⟩
        · rw [if_neg c2]; exact ⟨fun _ => by decide, fun _ => .inl rfl⟩
  · show bl_ (if b = 4 then n else 0)
    rw [if_neg (fun e => by rw [e] at hb; revert hb; decide)]; exact .inl rfl
theorem BY_cp [Inhabited fz_] (h9 : BY M 9) (h69 : BY M 69) (e : M' 69 = cp_ (M 9) (M 69) n) : BY M' 69 := fun i i0 i1 => by
  rw [e]; unfold cp_
  split
  · exact h9 i i0 i1
  · exact h69 i i0 i1
theorem x_101 [Inhabited fz_] (hn0 : 0 ≤ n) (hn : n ≤ 5000) (hro : RO_ M) (h9 : BY M 9) (h69 : BY M 69) (h7 : 0 ≤ M 1 7 ∧ M 1 7 ≤ 100000000) : Tr_ wd0 pg0 133 101 [.inr (.inr 1), .inr (.inr 9), .inl n, .inr (.inr 5)] M (ri_ fun v M1 => v = M1 1 4 ∧ (v = 0 → LDP (swM M1) ∧ M1 1 2 = 5)) (fun _ _ => False) := by
  refine y_101 (dq := 0) (N := nqM (M 9) n) hn0 hn rfl (fun w hw => ?_) hro (fun i i0 i1 => ?_) h9 h69 (fun i i0 i1 => ?_) h7 (fun M' xl e69 hq => ⟨rfl, fun e => ?_⟩) (fun M' N' xl e69 ql pl e14 b7 hq Qt' => ?_)
  · show pWh ((w : Int)).toNat = pWh w
    rw [show ((w : Int)).toNat = w by (clear hn0 hn hro h9 h69 h7; lia)]
  · show -128 ≤ (if 0 ≤ i ∧ i < 5000 then M 9 i else 0) ∧ (if 0 ≤ i ∧ i < 5000 then M 9 i else 0) ≤ 127
    rw [if_pos ⟨i0, i1⟩]; exact h9 i i0 i1
  · show (if 0 ≤ i ∧ i < 5000 then M 9 i else 0) = M 9 i
    rw [if_pos (by omega)]
  · exact absurd (hq (fun _ _ => False) (fun _ _ => False) (fun N' f => f.2.1.1 e)) (Tr_ng _ _ _ _ _ _ (by decide) (fun vs M ⟨_, _, h⟩ => h.elim) (fun r M h => h.elim) (nqM_g h9))
  · obtain ⟨R, _, hx, _⟩ := y_wrn (W0_of pl)
    refine hx 130 _ _ (fun M2 w => ⟨rfl, fun _ => ?_⟩)
    obtain ⟨l1, l2⟩ := PLA_L pl (BY_cp h9 h69 e69)
    refine ⟨?_, by rw [w.1 1 (by decide)]; exact l2⟩
    have e : ∀ r : Nat, r ∈ [56, 69, 70, 71, 72] → swM M2 r = swM M' r := fun r hr => by
      have h : r ≠ 1 ∧ r ≠ 4 ∧ r ≠ 5 ∧ ¬ (79 ≤ r ∧ r ≤ 144) := by revert hr; simp only [List.mem_cons, List.not_mem_nil, or_false]; (clear hn0 hn hro h9 h69 h7 xl e69 ql pl e14 b7 hq hx w l1 l2; omega)
      rw [swM_r h.1 h.2.1 h.2.2.1 h.2.2.2, swM_r h.1 h.2.1 h.2.2.1 h.2.2.2, w.1 r (by simp only [List.mem_cons, List.not_mem_nil, or_false]; (clear hn0 hn hro h9 h69 h7 xl e69 ql pl e14 b7 hq hx w l1 l2 hr; omega))]
    unfold LDP at l1 ⊢
    rw [e 56 (by decide), e 69 (by decide), e 71 (by decide), e 72 (by decide), show swM M2 4 0 = swM M' 4 0 from w.2.1 0 (by decide)]
    exact l1
end SWa
end T451_xl
section T452_ql
/-! load: Q's side, walked -/
/-- Q's text is the tape's -/
def tqM (N : mm_) (n : Int) : mm_ := up_ (up_ (wr_ N 146 (cp_ (N 145) (N 146) n)) 6 4 n) 6 3 0
/-- the good text is kept -/
def gdM (N : mm_) (n : Int) : mm_ := up_ (up_ (up_ (up_ (wr_ N 147 (cp_ (N 146) (N 147) n)) 6 5 n) 6 6 1) 6 126 0) 6 163 0
/-- the good text again -/
def rpM (N : mm_) : mm_ := up_ (wr_ (up_ N 6 119 (N 6 14)) 146 (cp_ (N 147) (N 146) (N 6 5))) 6 4 (N 6 5)
section QLa
variable {dq : Nat} {N N2 : mm_} {n : Int} {K : Int → mm_ → Prop} {Qt : qt_} {V : vv_} {Qr : qr_} {d : Nat}
theorem l_216a [Inhabited fz_] (hV : Cl_ wd0 (Tr_ wd0 pg0 d) V Qr Qt m_216) (hW : Wk_ V) (hn : n ≤ 5000) (h : Tr_ wd0 pg0 d 316 [.inr (.inr 6)] (gdM N n) (rv_ fun M1 => Qr [.inl 0] M1) Qt) : ∀ (c : Nat) (k : Int), (n - k).toNat ≤ c → 0 ≤ k → k ≤ n → V 29 [rr 6, ii n, ii k, none] [] (wr_ N 147 (cp_ (N 146) (N 147) k)) := by
  intro c
  induction c with
  | zero =>
    intro k hc h0 hk
    have : k = n := by omega
    subst this
    refine b_216_29 (Tr_mono _) hV hW _ _ _ ?_
    rw [if_neg (by omega)]
    exact ⟨.inr rfl, .inl rfl, h⟩
  | succ c ih =>
    intro k hc h0 hk
    refine b_216_29 (Tr_mono _) hV hW _ _ _ ?_
    by_cases h1 : k < n
    · rw [if_pos h1]
      have e9 : (wr_ N 147 (cp_ (N 146) (N 147) k)) 146 = N 146 := wr_ne (by decide)
      rw [e9]
      refine ⟨by omega, fun h2 => ⟨⟨by omega, h2⟩, ?_⟩⟩
      rw [up_wr, cp_su h0, w32_id (by omega) (by omega)]
      exact ih (k + 1) (by omega) (by omega) (by omega)
    · rw [if_neg h1]
      have : k = n := by omega
      subst this
      exact ⟨.inr rfl, .inl rfl, h⟩
theorem l_216b [Inhabited fz_] (hV : Cl_ wd0 (Tr_ wd0 pg0 d) V Qr Qt m_216) (hW : Wk_ V) {x1 x2 m : Int} (h5 : N 6 5 = m) (hm : m ≤ 5000) (h : Tr_ wd0 pg0 d 218 [.inr (.inr 6)] (up_ (wr_ N 146 (cp_ (N 147) (N 146) m)) 6 4 m) (ri_ fun _ M1 => Qr [.inl x2] M1) Qt) : ∀ (c : Nat) (k : Int), (m - k).toNat ≤ c → 0 ≤ k → k ≤ m → V 100 [rr 6, ii x1, ii x2, ii k] [] (wr_ N 146 (cp_ (N 147) (N 146) k)) := by
  intro c
  have e5 : ∀ k, (wr_ N 146 (cp_ (N 147) (N 146) k)) 6 5 = m := fun k => by rw [wr_ne (by decide)]; exact h5
  induction c with
  | zero =>
    intro k hc h0 hk
    have : k = m := by (clear hV hW h5 h e5; omega)
    subst this
    refine b_216_100 (Tr_mono _) hV hW _ _ _ _ ?_
    rw [e5, if_neg (by omega)]
    exact h
  | succ c ih =>
    intro k hc h0 hk
    refine b_216_100 (Tr_mono _) hV hW _ _ _ _ ?_
    rw [e5]
    by_cases h1 : k < m
    · rw [if_pos h1]
      have e9 : (wr_ N 146 (cp_ (N 147) (N 146) k)) 147 = N 147 := wr_ne (by decide)
      rw [e9]
      refine ⟨by omega, fun h2 => ⟨⟨by omega, h2⟩, ?_⟩⟩
      rw [up_wr, cp_su h0, w32_id (by omega) (by omega)]
      exact ih (k + 1) (by omega) (by omega) (by omega)
    · rw [if_neg h1]
      have : k = m := by omega
      subst this
      exact h
theorem q_216 [Inhabited fz_] (hn : 0 ≤ n ∧ n ≤ N 6 3) (h5 : n ≤ 5000) (hb : BY N 145) (h218 : Tr_ wd0 pg0 (d + 1) 218 [.inr (.inr 6)] (tqM N n) (ri_ fun v N2 => (v ≠ 0 → Tr_ wd0 pg0 (d + 1) 316 [.inr (.inr 6)] (gdM N2 n) (rv_ fun N5 => K 0 N5) Qt)
      ∧ (v = 0 → (N2 6 6 = 0 → K (N2 6 13) (up_ N2 6 119 (N2 6 14))) ∧ (N2 6 6 ≠ 0 → (0 ≤ N2 6 5 ∧ N2 6 5 ≤ 5000) ∧ Tr_ wd0 pg0 (d + 1) 218 [.inr (.inr 6)] (rpM N2) (ri_ fun _ N6 => K (N2 6 13) N6) Qt))) Qt) : Tr_ wd0 pg0 (d + 2) 216 [.inr (.inr 6), .inl n] N (ri_ K) Qt := by
  refine t_216 fun V hV hW => b_216_0 (Tr_mono _) hV hW _ _ ?_
  rw [if_neg (by omega), if_pos hn.2]
  refine s_217 (d := d) hn.1 h5 hb (Tr_m h218 (fun vs N2 g => ?_) (fun _ _ h => h))
  obtain ⟨v, e, g1, g2⟩ := g
  refine ⟨v, e, ?_⟩
  show if v = 0 then (bl_ (N2 6 6) → if N2 6 6 = 0 then ri_ K [.inl (N2 6 13)] (up_ N2 6 119 (N2 6 14)) else V 100 [rr 6, ii n, ii (N2 6 13), ii 0] [] (up_ N2 6 119 (N2 6 14))) else V 29 [rr 6, ii n, ii 0, none] [] N2
  by_cases c : v = 0
  · obtain ⟨k0, k1⟩ := g2 c
    rw [if_pos c]
    intro _
    by_cases z : N2 6 6 = 0
    · rw [if_pos z]; exact ri_i (k0 z)
    · rw [if_neg z]
      obtain ⟨m5, k⟩ := k1 z
      have h1 := l_216b (N := up_ N2 6 119 (N2 6 14)) (x1 := n) (x2 := N2 6 13) (m := N2 6 5) hV hW (by rw [upo (by decide)]) m5.2 (Tr_m k (fun vs M g => by obtain ⟨w, e, g⟩ := g; exact ⟨w, e, ri_i g⟩) (fun _ _ h => h)) (N2 6 5).toNat 0 (by (clear hn h5 hb h218 hV hW e g1 g2 c k0 k1 z k; lia)) (Int.le_refl _) m5.1
      rw [cp_0, wr_id] at h1
      exact h1
  · rw [if_neg c]
    have h1 := l_216a (N := N2) (n := n) hV hW h5 (Tr_m (g1 c) (fun vs M g => by obtain ⟨e, g⟩ := g; exact ⟨e, ri_i g⟩) (fun _ _ h => h)) n.toNat 0 (by (clear hb h218 hV hW e g1 g2 c; lia)) (Int.le_refl _) hn.1
    rw [cp_0, wr_id] at h1
    exact h1
end QLa
end T452_ql
section T453_rp
/-! load: what a clean parse leaves in Q, told without the tokens -/
/-- names of the signals -/
def NGF (M N : mm_) : Prop := (0 ≤ M 5 0 ∧ M 5 0 ≤ 20 ∧ N 6 17 = M 5 0) ∧ ∀ s, 0 ≤ s → s < M 5 0 → (1 ≤ M 72 (M 56 s) - M 71 (M 56 s) ∧ M 72 (M 56 s) - M 71 (M 56 s) ≤ 10) ∧ (0 ≤ M 71 (M 56 s) ∧ M 72 (M 56 s) ≤ 5000) ∧ (∀ j : Nat, j < (M 72 (M 56 s) - M 71 (M 56 s)).toNat → 0 < cd_ (M 69 (M 71 (M 56 s) + j) % 256)) ∧ N 152 s = hs_ (M 69) (M 71 (M 56 s)) (M 72 (M 56 s) - M 71 (M 56 s)).toNat
section RPa
variable {M N M' N' M1 N1 : mm_} {n : Int}
theorem hs_a2 [Inhabited fz_] {f g : Int → Int} {a b : Int} : ∀ m : Nat, (∀ j : Nat, j < m → f (a + j) = g (b + j)) → hs_ f a m = hs_ g b m
  | 0, _ => rfl
  | m + 1, h => by
    show 38 * hs_ f a m + cd_ (f (a + m) % 256) = 38 * hs_ g b m + cd_ (g (b + m) % 256)
    rw [hs_a2 m (fun j hj => h j (by omega)), h m (by (clear h; lia))]
theorem NGF_of [Inhabited fz_] (h : PLA M N) : NGF M N := by
  obtain ⟨ig, F, a, ⟨S, _⟩, _, _, _, _, _, tk⟩ := h
  obtain ⟨⟨⟨tks, hE, m12⟩, ⟨sg, _⟩, _⟩, _⟩ := S
  obtain ⟨⟨s1, s2, s3⟩, s4⟩ := sg.1
  refine ⟨⟨s1, s2, s3⟩, fun s s0 s9 => ?_⟩
  obtain ⟨⟨g1, g2⟩, e⟩ := s4 s s0 s9
  obtain ⟨t1, t2, t3, t4⟩ := tk _ g1 g2
  have b := (tks _ g1).2.2.2.1
  exact ⟨⟨t3, t4⟩, ⟨b.1, b.2.2⟩, t2, by rw [e]; exact t1⟩
theorem NGF_c [Inhabited fz_] (h : NGF M N) (hx : ∀ r : Nat, r ∈ [56, 69, 71, 72] → M' r = M r) (h5 : M' 5 0 = M 5 0) (h6 : N' 6 17 = N 6 17) (hq : N' 152 = N 152) : NGF M' N' := by
  unfold NGF
  rw [hx 56 (by decide), hx 69 (by decide), hx 71 (by decide), hx 72 (by decide), h5, h6, hq]; exact h
/-- X's names and Q's -/
theorem NMQ_of [Inhabited fz_] (h : NGF M N) (hb : BY M 69) (h4 : M1 4 0 = M 5 0) (hl : LDN (swM M) M1 (M1 4 0)) : NMQ M1 N := by
  obtain ⟨h1, h2⟩ := h
  unfold NMQ
  rw [h4] at hl ⊢
  refine ⟨h1, fun s s0 s9 => ?_⟩
  obtain ⟨a1, a2, a3, a4⟩ := h2 s s0 s9
  obtain ⟨l1, l2⟩ := hl s s0 s9
  rw [swM_r (r := 56) (by decide) (by decide) (by decide) (by decide), swM_r (r := 71) (by decide) (by decide) (by decide) (by decide), swM_r (r := 72) (by decide) (by decide) (by decide) (by decide)] at l1 l2
  rw [swM_r (r := 69) (by decide) (by decide) (by decide) (by decide)] at l2
  rw [l1]
  refine ⟨a1, fun j hj => ?_, ?_⟩
  · have e := l2 j (by (clear hb h4 hl h1 h2 s0 s9 a1 a2 a3 a4 l1 l2 hj; lia)) (by (clear hb h4 hl h1 h2 s0 s9 a2 a3 a4 l2; omega))
    rw [e]
    exact ⟨hb _ (by (clear hb h4 hl h1 h2 s0 s9 a1 a3 a4 l1 l2 hj e; omega)) (by (clear hb h4 hl h1 h2 s0 s9 a3 a4 l2 e; omega)), a3 j hj⟩
  · rw [a4]
    exact hs_a2 _ (fun j hj => (l2 j (by omega) (by omega)).symm)
/-- a clean parse, from X's reading of the same text -/
theorem y_101p [Inhabited fz_] (hn0 : 0 ≤ n) (hn : n ≤ 5000) (h4 : N 6 4 = n) (hw : Wd_ N) (hro : RO_ M) (hbN : BY N 146) (h9 : BY M 9) (h69 : BY M 69) (hag : ∀ i, 0 ≤ i → i < n → N 146 i = M 9 i) (h7 : 0 ≤ M 1 7 ∧ M 1 7 ≤ 100000000) :
    Tr_ wd0 pg0 133 101 [.inr (.inr 1), .inr (.inr 9), .inl n, .inr (.inr 5)] M (ri_ fun v M1 => v = 0 → Tr_ wd0 pg0 21 218 [.inr (.inr 6)] N (ri_ fun _ N6 => QLd N N6 ∧ PLB M1 N6 ∧ NGF M1 N6) (fun _ _ => False)) (fun _ _ => False) := by
  haveI ig : Inhabited gh_ := ⟨(0, fun _ => 0, 0, 0)⟩
  refine y_101 (dq := 0) (N := N) hn0 hn h4 hw hro hbN h9 h69 hag h7 (fun M' xl e69 hq e => hq _ _ (fun N' f => absurd e f.2.1.1)) (fun M' N' xl e69 ql pl e14 b7 hq Qt' => ?_)
  obtain ⟨R, _, hx, _⟩ := y_wrn (W0_of pl)
  refine hx 130 _ _ (fun M2 w _ => hq _ _ ⟨QLd_16 ql, ?_, ?_⟩)
  · refine PLB_T (PLA_B pl) ⟨fun r a b => w.1 r (by simp only [List.mem_cons, List.not_mem_nil, or_false]; omega), fun i a b => w.2.1 i (by (clear hn0 hn h4 hw hro hbN h9 h69 hag h7 xl e69 ql pl e14 b7 hq hx w; omega))⟩ ⟨fun r hr => up_ne (by (clear hn0 hn h4 hw hro hbN h9 h69 hag h7 xl e69 ql pl e14 b7 hq hx w; omega)), fun i hi => upo (fun e => by rw [e] at hi; revert hi; decide)⟩
  · exact NGF_c (NGF_of pl) (fun r hr => w.1 r (by revert hr; simp only [List.mem_cons, List.not_mem_nil, or_false]; (clear hn0 hn h4 hw hro hbN h9 h69 hag h7 xl e69 ql pl e14 b7 hq hx w; omega))) (w.2.1 0 (by decide)) (upo (by decide)) (up_ne (by decide))
end RPa
end T453_rp
section T454_lt
/-! load: the relation behind it -/
def QF9 (N N' : mm_) : Prop := (∀ r : Nat, ¬ (r = 6 ∨ r = 146 ∨ (149 ≤ r ∧ r ≤ 234)) → N' r = N r) ∧ ∀ i : Int, i ∉ 3 :: 4 :: 11 :: 119 :: qpI → N' 6 i = N 6 i
def QS9 (N N' : mm_) : Prop := (∀ r : Nat, ¬ (r = 6 ∨ r = 146 ∨ r = 147 ∨ (149 ≤ r ∧ r ≤ 238)) → N' r = N r) ∧ ∀ i : Int, i ∉ 3 :: 4 :: 5 :: 6 :: 11 :: 120 :: 126 :: 163 :: qpI → N' 6 i = N 6 i
/-- what the clean load leaves -/
def RWS9 (N : mm_) (n b : Int) (M2 N5 : mm_) : Prop := QS9 N N5 ∧ (N5 6 3 = 0 ∧ N5 6 5 = n ∧ N5 6 6 = 1 ∧ N5 6 126 = 0 ∧ N5 6 163 = 0) ∧ (BY N5 146 ∧ BY N5 147 ∧ ∀ i, 0 ≤ i → i < n → N5 147 i = N 145 i) ∧ PLB M2 N5 ∧ NGF M2 N5
  ∧ (M2 5 36 = N5 6 120 ∧ (0 ≤ N5 6 120 ∧ N5 6 120 ≤ 200) ∧ ∀ k, 0 ≤ k → k < N5 6 120 → M2 143 k = N5 235 k ∧ M2 144 k = N5 236 k) ∧ (0 ≤ M2 1 7 ∧ M2 1 7 ≤ b + 30000)
section LTa
variable {c n : Int} {M N M1 M2 M3 N' : mm_}
theorem xr_n [Inhabited fz_] {r : Nat} (h : ¬ (r = 0 ∨ r = 1 ∨ r = 2 ∨ r = 5 ∨ (55 ≤ r ∧ r ≤ 73) ∨ (112 ≤ r ∧ r ≤ 144))) (xl : XLd (up_ M 0 6 0) M1) : M1 r = M r := by
  rw [xl r (by unfold xrL xpL; simp only [List.mem_cons, List.not_mem_nil, or_false]; omega), up_ne (by (clear xl; lia))]
theorem xr_0 [Inhabited fz_] {i : Int} (h : i ≠ 6) (xl : XLd (up_ M 0 6 0) M1) : M1 0 i = M 0 i := by
  rw [xl 0 (by decide), upo h]
theorem TSR_T [Inhabited fz_] {B : Int} (hP : PLr M N) (hP' : PLr M N') (h : TSR M N B) (h62 : M1 0 62 = M 0 62) (h163 : N' 6 163 = N 6 163) (hx : ∀ r : Nat, r ∈ [27, 28, 29, 32, 33, 34, 35, 36, 37] → M1 r = M r) (hq : ∀ r : Nat, r ∈ [245, 247, 248, 249, 250, 251, 252, 253] → N' r = N r) : TSR M1 N' B := by
  rcases h with ⟨a, b⟩ | ⟨n, s⟩
  · exact .inl ⟨by rw [h62]; exact a, by rw [h163]; exact b⟩
  · have s2 := SST_T s (TBE_of hP hP') h163 hq
    exact .inr ⟨n, SST_c s2 h62 rfl (fun r hr k _ _ _ => by rw [hx r hr]) (fun _ _ => rfl) rfl ⟨rfl, rfl⟩ (fun k k0 k1 => pkL_len (PKB_of hP') (s2.2.2 k k0 k1).1.1)⟩
/-- a load that fails -/
theorem LF_top [Inhabited fz_] (h : TOP c M N) (xl : XLd (up_ M 0 6 0) M1) (e69 : M1 69 = cp_ (M 9) (M 69) n) (b7 : 0 ≤ M1 1 7 ∧ M1 1 7 ≤ M 1 7 + 30000) (hq : QF9 N N') (e3 : N' 6 3 = 0) (e119 : N' 6 119 = M1 1 5) (b146 : BY N' 146) (hl : M 0 3 = 1 → PLr M N' ∧ NMQ M N') : TOP (c + 1) (up_ M1 0 71 (M1 1 5)) N' := by
  obtain ⟨⟨⟨⟨⟨t1, t2⟩, t3, t4⟩, c1, c2, c3⟩, ⟨r1, r2, r3, r4, r5, r6⟩, m7, ⟨ld, wn⟩, nq⟩, ba, lk, rn⟩ := h
  have x : ∀ r : Nat, ¬ (r = 0 ∨ r = 1 ∨ r = 2 ∨ r = 5 ∨ (55 ≤ r ∧ r ≤ 73) ∨ (112 ≤ r ∧ r ≤ 144)) → up_ M1 0 71 (M1 1 5) r = M r := fun r hr => by rw [up_ne (by (clear xl e69 b7 hq e3 e119 b146 hl t1 t2 t3 t4 c1 c2 c3 r1 r2 r3 r4 r5 r6 m7 nq ld wn ba lk rn; omega)), xr_n hr xl]
  have x0 : ∀ i : Int, i ≠ 6 → i ≠ 71 → up_ M1 0 71 (M1 1 5) 0 i = M 0 i := fun i h1 h2 => by rw [upo h2, xr_0 h1 xl]
  have x06 : up_ M1 0 71 (M1 1 5) 0 6 = 0 := by rw [upo (by decide), xl 0 (by decide), up_at]
  have x071 : up_ M1 0 71 (M1 1 5) 0 71 = M1 1 5 := up_at
  have x17 : up_ M1 0 71 (M1 1 5) 1 7 = M1 1 7 := by rw [up_ne (by decide)]
  have x69 : up_ M1 0 71 (M1 1 5) 69 = M1 69 := up_ne (by decide)
  generalize up_ M1 0 71 (M1 1 5) = M9 at *
  obtain ⟨q, q6⟩ := hq
  have x4 : swc M9 = swc M := swc_f (x 4 (by decide)) (fun r a b => x r (by (clear xl e69 b7 e3 e119 b146 hl t1 t2 t3 t4 c1 c2 c3 r1 r2 r3 r4 r5 r6 m7 nq ld wn ba lk rn x x0 x06 x071 x17 x69 q q6; omega)))
  have pl : M 0 3 = 1 → PLr M9 N' := fun e => by unfold PLr; rw [x4]; exact (hl e).1
  refine ⟨⟨⟨⟨⟨by (clear xl e69 b7 e119 b146 hl t1 t2 t3 t4 c1 c2 c3 r1 r2 r3 r4 r5 r6 m7 nq ld wn ba lk rn x x0 x071 x17 x69 q q6 x4 pl; lia), fun i i0 i1 => by omega⟩, BY_c t3 (x 9 (by decide)), BY_c t4 (q 145 (by decide))⟩, ⟨by rw [x071, e119], by rw [x0 96 (by decide) (by decide), q6 187 (by decide)]; exact c2, by rw [x0 97 (by decide) (by decide), q6 188 (by decide)]; exact c3⟩⟩, ⟨?_, ?_, BY_cp t3 r3 (by rw [x69]; exact e69), BY_c r4 (x 74 (by decide)), b146, BY_c r6 (q 147 (by decide))⟩, by rw [x17]; (clear xl e69 e3 e119 b146 hl t1 t2 t3 t4 c1 c2 c3 r1 r2 r3 r4 r5 r6 nq ld wn ba lk rn x x0 x06 x071 x69 q q6 x4 pl; lia), ⟨?_, ?_⟩, ?_⟩, ?_, ?_, fun e => ?_⟩
  · unfold RO_
    rw [x 1001 (by decide), x 1002 (by decide), x 1011 (by decide), x 1012 (by decide)]; exact r1
  · unfold Wd_
    rw [q 148 (by decide)]; exact r2
  · rcases ld with ⟨a, b⟩ | ⟨⟨a, b⟩, p, w⟩
    · exact .inl ⟨by rw [x0 3 (by decide) (by decide)]; exact a, by rw [q6 6 (by decide)]; exact b⟩
    · exact .inr ⟨⟨by rw [x0 3 (by decide) (by decide)]; exact a, by rw [q6 6 (by decide)]; exact b⟩, pl a, by rw [x 4 (by decide), q6 120 (by decide)]; exact w⟩
  · unfold WNR
    rw [x0 3 (by decide) (by decide), q6 120 (by decide), x 4 (by decide), x 110 (by decide), x 111 (by decide), q 235 (by decide), q 236 (by decide)]; exact wn
  · rw [x0 3 (by decide) (by decide)]
    intro e
    obtain ⟨n1, Mg, Mp, m, g1, g2, g3⟩ := nq e
    have n2 := (hl e).2
    refine ⟨?_, Mg, Mp, m, ?_, g2, by rw [x 4 (by decide)]; exact g3.1, fun r h0 h1 => by rw [x r (by (clear xl e69 b7 e3 e119 b146 hl t1 t2 t3 t4 c1 c2 c3 r1 r2 r3 r4 r5 r6 m7 nq ld wn ba lk rn x x0 x06 x071 x17 x69 q q6 x4 pl e n1 g1 g2 g3 n2; omega))]; exact g3.2.1 r h0 h1, by unfold LDN; rw [x 4 (by decide), x 42 (by decide), x 43 (by decide)]; exact g3.2.2.1, g3.2.2.2⟩
    · unfold NMQ
      rw [x 4 (by decide), x 42 (by decide), x 43 (by decide)]; exact n2
    · rw [q6 5 (by decide), q 147 (by decide)]; exact g1
  · unfold BAS RG9
    rw [x 24 (by decide), x 23 (by decide), q 241 (by decide), q 240 (by decide), q 239 (by decide)]; exact ba
  · rcases lk with ⟨a, b⟩ | ⟨⟨s1, s2, s3, s4⟩, k1, k2⟩
    · exact .inl ⟨by rw [x0 4 (by decide) (by decide)]; exact a, by rw [q6 126 (by decide)]; exact b⟩
    · have l3 := (rn k1).1
      have tb := TBE_of s2 (hl l3).1
      refine .inr ⟨⟨RU_T s1 tb (fun r hr => x r (by revert hr; simp only [List.mem_cons, List.not_mem_nil, or_false]; (clear xl e69 b7 e3 e119 b146 hl t1 t2 t3 t4 c1 c2 c3 r1 r2 r3 r4 r5 r6 m7 nq ld wn ba rn x x0 x06 x071 x17 x69 q q6 x4 pl s1 s2 s3 s4 k1 k2 l3 tb; omega))) (fun i hi => x0 i (fun e => by rw [e] at hi; revert hi; decide) (fun e => by rw [e] at hi; revert hi; decide)) (fun r hr => q r (by revert hr; simp only [List.mem_cons, List.not_mem_nil, or_false]; (clear xl e69 b7 e3 e119 b146 hl t1 t2 t3 t4 c1 c2 c3 r1 r2 r3 r4 r5 r6 m7 nq ld wn ba rn x x0 x06 x071 x17 x69 q q6 x4 pl s1 s2 s3 s4 k1 k2 l3 tb; lia))) (fun i hi h1 h2 => q6 i (fun e => by revert hi e; simp only [rfQ, qpI, List.mem_cons, List.not_mem_nil, or_false]; (clear xl e69 b7 e3 e119 b146 hl t1 t2 t3 t4 c1 c2 c3 r1 r2 r3 r4 r5 r6 m7 nq ld wn ba rn x x0 x06 x071 x17 x69 q q6 x4 pl s1 s2 s3 s4 k1 k2 l3 tb; omega))), pl l3, TYA_T s1 s3 tb (q 239 (by decide)), by rw [x0 11 (by decide) (by decide), q6 130 (by decide)]; exact s4⟩, by rw [x0 4 (by decide) (by decide)]; exact k1, by rw [q6 126 (by decide)]; exact k2⟩
  · rw [x0 4 (by decide) (by decide)] at e
    obtain ⟨a1, a2, a3, B, a4, a5⟩ := rn e
    have hP : PLr M N := by
      rcases lk with ⟨a, b⟩ | hr
      · omega
      · exact hr.1.2.1
    refine ⟨by rw [x0 3 (by decide) (by decide)]; exact a1, ?_, by rw [x0 8 (by decide) (by decide)]; (clear xl e69 b7 e3 e119 b146 hl t1 t2 t3 t4 c1 c2 c3 r1 r2 r3 r4 r5 r6 m7 nq ld wn ba lk rn x x0 x06 x071 x17 x69 q q6 x4 pl e a1 a2 a4 a5 hP; lia), B, ?_, by (clear xl e69 b7 e3 e119 b146 hl t1 t2 t3 t4 c1 c2 c3 r1 r2 r3 r4 r5 r6 m7 nq ld wn ba lk rn x x0 x06 x071 x17 x69 q q6 x4 pl e a1 a2 a3 a4 hP; lia)⟩
    · unfold SCT
      rw [x0 62 (by decide) (by decide), x0 63 (by decide) (by decide), x0 64 (by decide) (by decide), q6 163 (by decide), q6 169 (by decide), q6 164 (by decide)]; exact a2
    · exact TSR_T hP (hl a1).1 a4 (x0 62 (by decide) (by decide)) (q6 163 (by decide)) (fun r hr => x r (by revert hr; simp only [List.mem_cons, List.not_mem_nil, or_false]; (clear xl e69 b7 e3 e119 b146 hl t1 t2 t3 t4 c1 c2 c3 r1 r2 r3 r4 r5 r6 m7 nq ld wn ba lk rn x x0 x06 x071 x17 x69 q q6 x4 pl e a1 a2 a3 a4 a5 hP; omega))) (fun r hr => q r (by revert hr; simp only [List.mem_cons, List.not_mem_nil, or_false]; (clear xl e69 b7 e3 e119 b146 hl t1 t2 t3 t4 c1 c2 c3 r1 r2 r3 r4 r5 r6 m7 nq ld wn ba lk rn x x0 x06 x071 x17 x69 q q6 x4 pl e a1 a2 a3 a4 a5 hP; omega)))
/-- a load that goes well -/
theorem LS_top [Inhabited fz_] (h : TOP c M N) (hn : 0 ≤ n ∧ n ≤ M 0 6) (hc : 0 ≤ c ∧ c ≤ 100) (xl : XLd (up_ M 0 6 0) M2) (e69 : M2 69 = cp_ (M 9) (M 69) n) (hr : RWS9 N n (M 1 7) M2 N') (ml : LDF (swM M2) M3) (hall : ∀ (K : Int → mm_ → Prop) (Qt : qt_), Tr_ wd0 pg0 133 101 [.inr (.inr 1), .inr (.inr 9), .inl n, .inr (.inr 5)] (up_ M 0 6 0) (ri_ K) Qt → K 0 M2) : TOP (c + 1) M3 N' := by
  obtain ⟨⟨⟨⟨⟨t1, t2⟩, t3, t4⟩, c1, c2, c3⟩, ⟨r1, r2, r3, r4, r5, r6⟩, m7, ⟨ld, wn⟩, nq⟩, ba, lk, rn⟩ := h
  obtain ⟨⟨q, q6⟩, ⟨n3, n5, n6, n126, n163⟩, ⟨b146, b147, a147⟩, pb, ng, ⟨w1, w2, w3⟩, b7⟩ := hr
  obtain ⟨l1, l2, ⟨l3, l4⟩, ln⟩ := ml
  have x : ∀ r : Nat, ¬ (r = 0 ∨ r = 1 ∨ r = 2 ∨ r = 4 ∨ r = 5 ∨ r = 42 ∨ r = 43 ∨ (55 ≤ r ∧ r ≤ 73) ∨ (79 ≤ r ∧ r ≤ 144)) → M3 r = M r := fun r hr => by
    rw [l1 r (by simp only [List.mem_cons, List.not_mem_nil, or_false]; (clear hn hc xl e69 hall t1 t2 t3 t4 c1 c2 c3 r1 r2 r3 r4 r5 r6 m7 nq ld wn ba lk rn q q6 n3 n5 n6 n126 n163 b146 b147 a147 pb ng b7 w1 w2 w3 l1 l2 ln l3 l4; lia)), swM_r (by (clear hn hc xl e69 hall t1 t2 t3 t4 c1 c2 c3 r1 r2 r3 r4 r5 r6 m7 nq ld wn ba lk rn q q6 n3 n5 n6 n126 n163 b146 b147 a147 pb ng b7 w1 w2 w3 l1 l2 ln l3 l4; lia)) (by (clear hn hc xl e69 hall t1 t2 t3 t4 c1 c2 c3 r1 r2 r3 r4 r5 r6 m7 nq ld wn ba lk rn q q6 n3 n5 n6 n126 n163 b146 b147 a147 pb ng b7 w1 w2 w3 l1 l2 ln l3 l4; lia)) (by (clear hn hc xl e69 hall t1 t2 t3 t4 c1 c2 c3 r1 r2 r3 r4 r5 r6 m7 nq ld wn ba lk rn q q6 n3 n5 n6 n126 n163 b146 b147 a147 pb ng b7 w1 w2 w3 l1 l2 ln l3 l4; lia)) (by (clear hn hc xl e69 hall t1 t2 t3 t4 c1 c2 c3 r1 r2 r3 r4 r5 r6 m7 nq ld wn ba lk rn q q6 n3 n5 n6 n126 n163 b146 b147 a147 pb ng b7 w1 w2 w3 l1 l2 ln l3 l4; omega)), xr_n (by (clear hn hc xl e69 hall t1 t2 t3 t4 c1 c2 c3 r1 r2 r3 r4 r5 r6 m7 nq ld wn ba lk rn q q6 n3 n5 n6 n126 n163 b146 b147 a147 pb ng b7 w1 w2 w3 l1 l2 ln l3 l4; lia)) xl]
  have x0 : ∀ i : Int, i ≠ 3 → i ≠ 4 → i ≠ 6 → M3 0 i = M 0 i := fun i h3 h4 h6 => by
    rw [l2 i h3 h4, swM_r (by decide) (by decide) (by decide) (by decide), xr_0 h6 xl]
  have x06 : M3 0 6 = 0 := by rw [l2 6 (by decide) (by decide), swM_r (by decide) (by decide) (by decide) (by decide), xl 0 (by decide), up_at]
  have p4 : M3 4 = M2 5 := by rw [l1 4 (by decide)]; rfl
  have pr : ∀ r : Nat, 79 ≤ r → r ≤ 111 → M3 r = M2 (r + 33) := fun r a b => by rw [l1 r (by simp only [List.mem_cons, List.not_mem_nil, or_false]; (clear hn hc xl e69 hall t1 t2 t3 t4 c1 c2 c3 r1 r2 r3 r4 r5 r6 m7 nq ld wn ba lk rn q q6 n3 n5 n6 n126 n163 b146 b147 a147 pb ng b7 w1 w2 w3 l1 l2 ln l3 l4 x x0 x06 p4; lia)), swM_p a b]
  have x69 : M3 69 = M2 69 := by rw [l1 69 (by decide), swM_r (by decide) (by decide) (by decide) (by decide)]
  have x17 : M3 1 7 = M2 1 7 := by rw [l1 1 (by decide), swM_1 (by decide)]
  have b69 : BY M2 69 := BY_cp t3 r3 e69
  have lnn : LDN (swM M2) M3 (M3 4 0) := by
    have e : swM M2 4 0 = M3 4 0 := by rw [p4]; rfl
    rw [← e]; exact ln
  have pl : PLr M3 N' := by
    refine PLB_T pb ⟨fun r a b => ?_, fun i a b => ?_⟩ QTE_t
    · obtain ⟨k, rfl⟩ : ∃ k, r = k + 33 := ⟨r - 33, by (clear hn hc xl e69 hall t1 t2 t3 t4 c1 c2 c3 r1 r2 r3 r4 r5 r6 m7 nq ld wn ba lk rn q q6 n3 n5 n6 n126 n163 b146 b147 a147 pb ng b7 w1 w2 w3 l1 l2 ln l3 l4 x x0 x06 p4 pr x69 x17 b69 lnn; lia)⟩
      rw [swc_r (by (clear hn hc xl e69 hall t1 t2 t3 t4 c1 c2 c3 r1 r2 r3 r4 r5 r6 m7 nq ld wn ba lk rn q q6 n3 n5 n6 n126 n163 b146 b147 a147 pb ng b7 w1 w2 w3 l1 l2 ln l3 l4 x x0 x06 p4 pr x69 x17 b69 lnn; lia)) (by (clear hn hc xl e69 hall t1 t2 t3 t4 c1 c2 c3 r1 r2 r3 r4 r5 r6 m7 nq ld wn ba lk rn q q6 n3 n5 n6 n126 n163 b146 b147 a147 pb ng b7 w1 w2 w3 l1 l2 ln l3 l4 x x0 x06 p4 pr x69 x17 b69 lnn; lia)), pr k (by omega) (by omega)]
    · rw [swc_5, p4]
  refine ⟨⟨⟨⟨⟨by (clear hn hc xl e69 hall t1 t2 t3 t4 c1 c2 c3 r1 r2 r3 r4 r5 r6 m7 nq ld wn ba lk rn q q6 n5 n6 n126 n163 b146 b147 a147 pb ng b7 w1 w2 w3 l1 l2 ln l3 l4 x x0 p4 pr x69 x17 b69 lnn pl; lia), fun i i0 i1 => by (clear hn hc xl e69 hall t1 t2 t3 t4 c1 c2 c3 r1 r2 r3 r4 r5 r6 m7 nq ld wn ba lk rn q q6 n3 n5 n6 n126 n163 b146 b147 a147 pb ng b7 w1 w2 w3 l1 l2 ln l3 l4 x x0 p4 pr x69 x17 b69 lnn pl; omega)⟩, BY_c t3 (x 9 (by decide)), BY_c t4 (q 145 (by decide))⟩, ⟨by rw [x0 71 (by decide) (by decide) (by decide), q6 119 (by decide)]; exact c1, by rw [x0 96 (by decide) (by decide) (by decide), q6 187 (by decide)]; exact c2, by rw [x0 97 (by decide) (by decide) (by decide), q6 188 (by decide)]; exact c3⟩⟩, ⟨?_, ?_, BY_c b69 x69, BY_c r4 (x 74 (by decide)), b146, b147⟩, by rw [x17]; (clear hn hc xl e69 hall t1 t2 t3 t4 c1 c2 c3 r1 r2 r3 r4 r5 r6 nq ld wn ba lk rn q q6 n3 n5 n6 n126 n163 b146 b147 a147 pb ng w1 w2 w3 l1 l2 ln l3 l4 x x0 x06 p4 pr x69 b69 lnn pl; omega), ⟨.inr ⟨⟨l3, n6⟩, pl, by rw [p4]; exact w1⟩, .inr ⟨l3, ⟨by rw [p4]; exact w1, w2⟩, fun k k0 k1 => ?_⟩⟩, fun _ => ⟨NMQ_of ng b69 (by rw [p4]) lnn, up_ M 0 6 0, M2, n, ⟨⟨hn.1, by (clear hc xl e69 hall t2 t3 t4 c1 c2 c3 r1 r2 r3 r4 r5 r6 m7 nq ld wn ba lk rn q q6 n3 n6 n126 n163 b146 b147 a147 pb ng b7 w1 w2 w3 l1 l2 ln l3 l4 x x0 x06 p4 pr x69 x17 b69 lnn pl; lia), n5⟩, ?_, ?_, ?_, ?_, fun i i0 i1 => ?_⟩, hall, p4, pr, lnn, b69⟩⟩, ?_, .inl ⟨l4, n126⟩, fun e => by (clear hn hc xl e69 hall t1 t2 t3 t4 c1 c2 c3 r1 r2 r3 r4 r5 r6 m7 nq ld wn ba lk rn q q6 n3 n5 n6 n126 n163 b146 b147 a147 pb ng b7 w1 w2 w3 l1 l2 ln l3 x x0 x06 p4 pr x69 x17 b69 lnn pl; lia)⟩
  · unfold RO_
    rw [x 1001 (by decide), x 1002 (by decide), x 1011 (by decide), x 1012 (by decide)]; exact r1
  · unfold Wd_
    rw [q 148 (by decide)]; exact r2
  · rw [pr 110 (by decide) (by decide), pr 111 (by decide) (by decide)]; exact w3 k k0 k1
  · unfold RO_
    rw [up_ne (by decide), up_ne (by decide), up_ne (by decide), up_ne (by decide)]; exact r1
  · exact BY_c t3 (up_ne (by decide))
  · exact BY_c r3 (up_ne (by decide))
  · rw [up_ne (by decide)]; (clear hn xl e69 hall t1 t2 t3 t4 c1 c2 c3 r1 r2 r3 r4 r5 r6 nq ld wn ba lk rn q q6 n3 n5 n6 n126 n163 b146 b147 a147 pb ng b7 w1 w2 w3 l1 l2 ln l3 l4 x x0 x06 p4 pr x69 x17 b69 lnn pl; lia)
  · rw [a147 i i0 i1, up_ne (by decide)]; exact (t2 i i0 (by (clear hc xl e69 hall t2 t3 t4 c1 c2 c3 r1 r2 r3 r4 r5 r6 m7 nq ld wn ba lk rn q q6 n3 n6 n126 n163 b146 b147 a147 pb ng b7 w1 w2 w3 l1 l2 ln l3 l4 x x0 x06 p4 pr x69 x17 b69 lnn pl i0; lia))).symm
  · unfold BAS RG9
    rw [x 24 (by decide), x 23 (by decide), q 241 (by decide), q 240 (by decide), q 239 (by decide)]; exact ba
end LTa
end T454_lt
section T455_lo
/-! load, whole: X 54 (its reading) | Q 216 -/
section LOx
variable {c n : Int} {M N M1 M2 M3 N' N2 N6 : mm_}
theorem WAr_eq [Inhabited fz_] {A B A' B' : Int → Int} : ∀ R : List (Int × Int), WAr A B R → WAr A' B' R → ∀ k, 0 ≤ k → k < (R.length : Int) → A k = A' k ∧ B k = B' k
  | [], _, _, k, k0, k1 => by simp only [List.length_nil] at k1; omega
  | x :: t, h, h', k, k0, k1 => by
    simp only [List.length_cons] at k1
    by_cases e : k = (t.length : Int)
    · rw [e, h.1.1, h.1.2, h'.1.1, h'.1.2]; exact ⟨rfl, rfl⟩
    · exact WAr_eq t h.2 h'.2 k k0 (by omega)
theorem tq_r [Inhabited fz_] {r : Nat} (h6 : r ≠ 6) (h : r ≠ 146) : tqM N n r = N r := by unfold tqM; rw [up_ne h6, up_ne h6, wr_ne h]
theorem tq_6 [Inhabited fz_] {i : Int} (h3 : i ≠ 3) (h4 : i ≠ 4) : tqM N n 6 i = N 6 i := by unfold tqM; rw [upo h3, upo h4, wr_ne (by decide)]
theorem tq_146 [Inhabited fz_] : tqM N n 146 = cp_ (N 145) (N 146) n := by unfold tqM; rw [up_ne (by decide), up_ne (by decide), wr_same]
theorem BY_c2 [Inhabited fz_] {f g : Int → Int} {m : Int} (h9 : ∀ i, 0 ≤ i → i < 5000 → -128 ≤ f i ∧ f i ≤ 127) (h69 : ∀ i, 0 ≤ i → i < 5000 → -128 ≤ g i ∧ g i ≤ 127) : ∀ i, 0 ≤ i → i < 5000 → -128 ≤ cp_ f g m i ∧ cp_ f g m i ≤ 127 := fun i i0 i1 => by
  unfold cp_
  split
  · exact h9 i i0 i1
  · exact h69 i i0 i1
theorem rp_r [Inhabited fz_] {r : Nat} (h6 : r ≠ 6) (h : r ≠ 146) : rpM N r = N r := by unfold rpM; rw [up_ne h6, wr_ne h, up_ne h6]
theorem rp_6 [Inhabited fz_] {i : Int} (h4 : i ≠ 4) (h : i ≠ 119) : rpM N 6 i = N 6 i := by unfold rpM; rw [upo h4, wr_ne (by decide), upo h]
theorem rp_119 [Inhabited fz_] : rpM N 6 119 = N 6 14 := by unfold rpM; rw [upo (by decide), wr_ne (by decide), up_at]
theorem rp_146 [Inhabited fz_] : rpM N 146 = cp_ (N 147) (N 146) (N 6 5) := by unfold rpM; rw [up_ne (by decide), wr_same]
theorem mq_1 [Inhabited fz_] {i : Int} (h : i ∈ 3 :: 4 :: 11 :: qpI) : i ∈ 3 :: 4 :: 11 :: 119 :: qpI := by
  simp only [List.mem_cons] at h ⊢
  rcases h with e | e | e | e
  · exact .inl e
  · exact .inr (.inl e)
  · exact .inr (.inr (.inl e))
  · exact .inr (.inr (.inr (.inr e)))
theorem mq_2 [Inhabited fz_] {i : Int} (h : i ∈ 11 :: qpI) : i ∈ 3 :: 4 :: 11 :: 119 :: qpI := mq_1 (List.mem_cons_of_mem _ (List.mem_cons_of_mem _ h))
/-- X's reading and Q's load -/
theorem op_54b [Inhabited fz_] (h : TOP c M N) (hc : 0 ≤ c ∧ c ≤ 100) (hn : 0 ≤ n ∧ n ≤ M 0 6) : Tr_ wd0 pg0 133 101 [.inr (.inr 1), .inr (.inr 9), .inl n, .inr (.inr 5)] (up_ M 0 6 0) (ri_ fun v M1 => (XLd (up_ M 0 6 0) M1 ∧ M1 69 = cp_ (M 9) (M 69) n)
      ∧ (v = 0 → Tr_ wd0 pg0 22 216 [.inr (.inr 6), .inl n] N (ri_ fun v' N' => v' = 0 ∧ RWS9 N n (M 1 7) M1 N') (fun _ _ => False))
      ∧ (v ≠ 0 → Tr_ wd0 pg0 22 216 [.inr (.inr 6), .inl n] N (ri_ fun v' N' => v' = v ∧ FQ9 N N' ∧ TOP (c + 1) (up_ M1 0 71 (M1 1 5)) N') (fun _ _ => False))) (fun _ _ => False) := by
  haveI ig : Inhabited gh_ := ⟨(0, fun _ => 0, 0, 0)⟩
  obtain ⟨⟨⟨⟨⟨t1, t2⟩, t3, t4⟩, c1, c2, c3⟩, ⟨r1, r2, r3, r4, r5, r6⟩, m7, ⟨ld, wn⟩, nq⟩, ba, lk, rn⟩ := id h
  have b146 : BY (tqM N n) 146 := by unfold BY; rw [tq_146]; exact BY_c2 t4 r5
  have wd1 : Wd_ (tqM N n) := by unfold Wd_; rw [tq_r (by decide) (by decide)]; exact r2
  refine y_101 (dq := 0) (M := up_ M 0 6 0) (N := tqM N n) hn.1 (by (clear h hc t2 t3 t4 c1 c2 c3 r1 r2 r3 r4 r5 r6 m7 nq ld wn ba lk rn b146 wd1; lia)) (by unfold tqM; rw [upo (by decide), up_at]) wd1 ?_ b146 (BY_c t3 (up_ne (by decide))) (BY_c r3 (up_ne (by decide))) (fun i i0 i1 => ?_) (by rw [up_ne (by decide)]; (clear h hn t1 t2 t3 t4 c1 c2 c3 r1 r2 r3 r4 r5 r6 nq ld wn ba lk rn b146 wd1; lia)) (fun M' xl e69 hq => ?_) (fun M' N' xl e69 ql pl e14 b7 hq Qt' => ?_)
  · unfold RO_
    rw [up_ne (by decide), up_ne (by decide), up_ne (by decide), up_ne (by decide)]; exact r1
  · rw [tq_146, up_ne (by decide)]
    unfold cp_
    rw [if_pos ⟨i0, i1⟩]; exact (t2 i i0 (by omega)).symm
  · -- a fault
    rw [up_ne (by decide), up_ne (by decide)] at e69
    refine ⟨⟨xl, e69⟩, fun e => ?_, fun e => ?_⟩
    · exact q_216 (d := 20) ⟨hn.1, by (clear h hc t2 t3 t4 c1 c2 c3 r1 r2 r3 r4 r5 r6 m7 nq ld wn ba lk rn b146 wd1 xl e69 hq e; omega)⟩ (by (clear h hc t2 t3 t4 c1 c2 c3 r1 r2 r3 r4 r5 r6 m7 nq ld wn ba lk rn b146 wd1 xl e69 hq e; lia)) t4 (hq _ _ (fun N2 f => absurd e f.2.1.1))
    · refine q_216 (d := 20) ⟨hn.1, by (clear h hc t2 t3 t4 c1 c2 c3 r1 r2 r3 r4 r5 r6 m7 nq ld wn ba lk rn b146 wd1 xl e69 hq e; omega)⟩ (by omega) t4 (hq _ _ (fun N2 f => ⟨fun h => absurd rfl h, fun _ => ?_⟩))
      obtain ⟨ql, ⟨f1, f2, f3⟩, f4⟩ := f
      rw [up_ne (r' := 1) (by decide)] at f4
      have qr : ∀ r : Nat, ¬ (r = 6 ∨ r = 146 ∨ (149 ≤ r ∧ r ≤ 234)) → N2 r = N r := fun r hr => by
        rw [ql.1 r (by unfold QPRr; (clear h hc hn t1 t2 t3 t4 c1 c2 c3 r1 r2 r3 r4 r5 r6 m7 nq ld wn ba lk rn b146 wd1 xl e69 hq e ql f4 f1 f2 f3; lia)), tq_r (by (clear h hc hn t1 t2 t3 t4 c1 c2 c3 r1 r2 r3 r4 r5 r6 m7 nq ld wn ba lk rn b146 wd1 xl e69 hq e ql f4 f1 f2 f3; lia)) (by (clear h hc hn t1 t2 t3 t4 c1 c2 c3 r1 r2 r3 r4 r5 r6 m7 nq ld wn ba lk rn b146 wd1 xl e69 hq e ql f4 f1 f2 f3; lia))]
      have q6 : ∀ i : Int, i ∉ 3 :: 4 :: 11 :: qpI → N2 6 i = N 6 i := fun i hi => by
        rw [ql.2 i (fun e => hi (by simp only [List.mem_cons] at e ⊢; simp only [e, or_true])), tq_6 (fun e => hi (by rw [e]; decide)) (fun e => hi (by rw [e]; decide))]
      have q3 : N2 6 3 = 0 := by rw [ql.2 3 (by decide)]; unfold tqM; rw [up_at]
      have q146 : N2 146 = tqM N n 146 := ql.1 146 (by unfold QPRr; (clear h hc hn t1 t2 t3 t4 c1 c2 c3 r1 r2 r3 r4 r5 r6 m7 nq ld wn ba lk rn b146 wd1 xl e69 hq e ql f4 f1 f2 f3 qr q6 q3; lia))
      refine ⟨fun z => ⟨f2, fun r hr => ?_, ?_⟩, fun z => ?_⟩
      · rw [up_ne (by (clear h hc hn t1 t2 t3 t4 c1 c2 c3 r1 r2 r3 r4 r5 r6 m7 nq ld wn ba lk rn b146 wd1 xl e69 hq e ql f4 f1 f2 f3 qr q6 q3 q146 z; lia))]; exact qr r (by (clear h hc hn t1 t2 t3 t4 c1 c2 c3 r1 r2 r3 r4 r5 r6 m7 nq ld wn ba lk rn b146 wd1 xl e69 hq e ql f4 f1 f2 f3 qr q6 q3 q146 z; lia))
      · have l0 : M 0 3 ≠ 1 := fun e1 => by
          rcases ld with ⟨a, b⟩ | ⟨⟨a, b⟩, _⟩
          · omega
          · rw [q6 6 (by decide)] at z; omega
        exact LF_top h xl e69 f4 ⟨fun r hr => by rw [up_ne (by omega)]; exact qr r hr, fun i hi => by rw [upo (fun e => hi (by rw [e]; decide))]; exact q6 i (fun e => hi (mq_1 e))⟩ (by rw [upo (by decide)]; exact q3) (by rw [up_at]; exact f3) (by unfold BY; rw [up_ne (by decide), q146]; exact b146) (fun e1 => absurd e1 l0)
      · have l1 : M 0 3 = 1 := by
          rcases ld with ⟨a, b⟩ | ⟨⟨a, b⟩, _⟩
          · rw [q6 6 (by decide)] at z; (clear h hc hn t1 t2 t3 t4 c1 c2 c3 r1 r2 r3 r4 r5 r6 m7 nq wn ba lk rn b146 wd1 xl e69 hq e ql f4 f1 f2 f3 qr q6 q3 q146; lia)
          · exact a
        obtain ⟨n1, Mg, Mp, m, ⟨⟨g1, g2, g3⟩, g4, g5, g6, g7, g8⟩, gg, p4, pr, ln, bp⟩ := nq l1
        have e5 : N2 6 5 = m := by rw [q6 5 (by decide)]; exact g3
        have e147 : N2 147 = N 147 := qr 147 (by decide)
        refine ⟨by (clear h hc hn t1 t2 t3 t4 c1 c2 c3 r1 r2 r3 r4 r5 r6 m7 nq ld wn ba lk rn b146 wd1 xl e69 hq e ql f4 f1 f2 f3 qr q6 q3 q146 z l1 n1 g4 g5 g6 g7 g8 gg p4 pr ln bp e147; lia), ?_⟩
        have bb : BY (rpM N2) 146 := by unfold BY; rw [rp_146, e147, q146]; exact BY_c2 r6 b146
        have hp := gg _ _ (y_101p (M := Mg) (N := rpM N2) (n := m) g1 g2 (by unfold rpM; rw [up_at]; exact e5) (by unfold Wd_; rw [rp_r (by decide) (by decide), qr 148 (by decide)]; exact r2) g4 bb g5 g6 (fun i i0 i1 => by rw [rp_146, e147, e5]; unfold cp_; rw [if_pos ⟨i0, i1⟩]; exact g8 i i0 i1) g7) rfl
        refine Tr_m hp (fun vs N6 g => ?_) (fun _ _ h => h)
        obtain ⟨w, ew, k1, k2, k3⟩ := g
        refine ⟨w, ew, f2, fun r hr => ?_, ?_⟩
        · rw [k1.1 r (by unfold QPRr; (clear h hc hn t1 t2 t3 t4 c1 c2 c3 r1 r2 r3 r4 r5 r6 m7 nq ld wn ba lk rn b146 wd1 xl e69 hq e ql f4 f1 f2 f3 qr q6 q3 q146 z l1 n1 g1 g2 g3 g4 g5 g6 g7 g8 gg p4 pr ln bp e5 e147 bb hp ew k1 k2 k3; omega)), rp_r (by (clear h hc hn t1 t2 t3 t4 c1 c2 c3 r1 r2 r3 r4 r5 r6 m7 nq ld wn ba lk rn b146 wd1 xl e69 hq e ql f4 f1 f2 f3 qr q6 q3 q146 z l1 n1 g1 g2 g3 g4 g5 g6 g7 g8 gg p4 pr ln bp e5 e147 bb hp ew k1 k2 k3; lia)) (by (clear h hc hn t1 t2 t3 t4 c1 c2 c3 r1 r2 r3 r4 r5 r6 m7 nq ld wn ba lk rn b146 wd1 xl e69 hq e ql f4 f1 f2 f3 qr q6 q3 q146 z l1 n1 g1 g2 g3 g4 g5 g6 g7 g8 gg p4 pr ln bp e5 e147 bb hp ew k1 k2 k3; omega))]; exact qr r (by (clear h hc hn t1 t2 t3 t4 c1 c2 c3 r1 r2 r3 r4 r5 r6 m7 nq ld wn ba lk rn b146 wd1 xl e69 hq e ql f4 f1 f2 f3 qr q6 q3 q146 z l1 n1 g1 g2 g3 g4 g5 g6 g7 g8 gg p4 pr ln bp e5 e147 bb hp ew k1 k2 k3; lia))
        · refine LF_top h xl e69 f4 ⟨fun r hr => by rw [k1.1 r (by unfold QPRr; (clear h hc hn t1 t2 t3 t4 c1 c2 c3 r1 r2 r3 r4 r5 r6 m7 nq ld wn ba lk rn b146 wd1 xl e69 hq e ql f4 f1 f2 f3 qr q6 q3 q146 z l1 n1 g1 g2 g3 g4 g5 g6 g7 g8 gg p4 pr ln bp e5 e147 bb hp ew k1 k2 k3; lia)), rp_r (by (clear h hc hn t1 t2 t3 t4 c1 c2 c3 r1 r2 r3 r4 r5 r6 m7 nq ld wn ba lk rn b146 wd1 xl e69 hq e ql f4 f1 f2 f3 qr q6 q3 q146 z l1 n1 g1 g2 g3 g4 g5 g6 g7 g8 gg p4 pr ln bp e5 e147 bb hp ew k1 k2 k3; lia)) (by (clear h hc hn t1 t2 t3 t4 c1 c2 c3 r1 r2 r3 r4 r5 r6 m7 nq ld wn ba lk rn b146 wd1 xl e69 hq e ql f4 f1 f2 f3 qr q6 q3 q146 z l1 n1 g1 g2 g3 g4 g5 g6 g7 g8 gg p4 pr ln bp e5 e147 bb hp ew k1 k2 k3; lia))]; exact qr r hr, fun i hi => ?_⟩ (by rw [k1.2 3 (by decide), rp_6 (by decide) (by decide)]; exact q3) (by rw [k1.2 119 (by decide), rp_119]; exact f3) (BY_c bb (k1.1 146 (by unfold QPRr; (clear h hc hn t1 t2 t3 t4 c1 c2 c3 r1 r2 r3 r4 r5 r6 m7 nq ld wn ba lk rn b146 wd1 xl e69 hq e ql f4 f1 f2 f3 qr q6 q3 q146 z l1 n1 g1 g2 g3 g4 g5 g6 g7 g8 gg p4 pr ln bp e5 e147 bb hp ew k1 k2 k3; lia)))) (fun _ => ⟨?_, NMQ_of k3 bp (by rw [p4]) ln⟩)
          · rw [k1.2 i (fun e => hi (mq_2 e)), rp_6 (fun e => hi (by rw [e]; decide)) (fun e => hi (by rw [e]; decide))]
            exact q6 i (fun e => hi (mq_1 e))
          · refine PLB_T k2 ⟨fun r a b => ?_, fun i a b => ?_⟩ QTE_t
            · obtain ⟨k, rfl⟩ : ∃ k, r = k + 33 := ⟨r - 33, by (clear h hc hn t1 t2 t3 t4 c1 c2 c3 r1 r2 r3 r4 r5 r6 m7 nq ld wn ba lk rn b146 wd1 xl e69 hq e ql f4 f1 f2 f3 qr q6 q3 q146 z l1 n1 g1 g2 g3 g4 g5 g6 g7 g8 gg p4 pr ln bp e5 e147 bb hp ew k1 k2 k3; omega)⟩
              rw [swc_r (by (clear h hc hn t1 t2 t3 t4 c1 c2 c3 r1 r2 r3 r4 r5 r6 m7 nq ld wn ba lk rn b146 wd1 xl e69 hq e ql f4 f1 f2 f3 qr q6 q3 q146 z l1 n1 g1 g2 g3 g4 g5 g6 g7 g8 gg p4 pr ln bp e5 e147 bb hp ew k1 k2 k3; omega)) (by (clear h hc hn t1 t2 t3 t4 c1 c2 c3 r1 r2 r3 r4 r5 r6 m7 nq ld wn ba lk rn b146 wd1 xl e69 hq e ql f4 f1 f2 f3 qr q6 q3 q146 z l1 n1 g1 g2 g3 g4 g5 g6 g7 g8 gg p4 pr ln bp e5 e147 bb hp ew k1 k2 k3; lia)), pr k (by omega) (by omega)]
            · rw [swc_5, p4]
  · -- a clean parse
    rw [up_ne (by decide), up_ne (by decide)] at e69
    rw [up_ne (r' := 1) (by decide)] at b7
    have g147 : ∀ k : Nat, k ≠ 6 → k ≠ 147 → gdM (up_ N' 6 16 0) n k = N' k := fun k h6 h7 => by unfold gdM; rw [up_ne h6, up_ne h6, up_ne h6, up_ne h6, wr_ne h7, up_ne h6]
    have g6 : ∀ i : Int, i ∉ [5, 6, 16, 126, 163] → gdM (up_ N' 6 16 0) n 6 i = N' 6 i := fun i hi => by
      unfold gdM
      rw [upo (fun e => hi (by rw [e]; decide)), upo (fun e => hi (by rw [e]; decide)), upo (fun e => hi (by rw [e]; decide)), upo (fun e => hi (by rw [e]; decide)), wr_ne (by decide), upo (fun e => hi (by rw [e]; decide))]
    have gv : gdM (up_ N' 6 16 0) n 6 5 = n ∧ gdM (up_ N' 6 16 0) n 6 6 = 1 ∧ gdM (up_ N' 6 16 0) n 6 126 = 0 ∧ gdM (up_ N' 6 16 0) n 6 163 = 0 := by
      unfold gdM
      refine ⟨?_, ?_, ?_, up_at⟩
      · rw [upo (by decide), upo (by decide), upo (by decide), up_at]
      · rw [upo (by decide), upo (by decide), up_at]
      · rw [upo (by decide), up_at]
    have gw : gdM (up_ N' 6 16 0) n 147 = cp_ (N' 146) (N' 147) n := by
      unfold gdM
      rw [up_ne (by decide), up_ne (by decide), up_ne (by decide), up_ne (by decide), wr_same, up_ne (by decide), up_ne (by decide)]
    obtain ⟨R, hR, hx, hqq⟩ := y_wrn (W0_c (W0_of pl) g147 g6)
    refine hx 130 _ _ (fun M2 w => ⟨⟨fun r hr => ?_, by rw [w.1 69 (by decide)]; exact e69⟩, fun _ => ?_, fun e => absurd (by rw [w.1 1 (by decide)]; exact e14) e⟩)
    · rw [w.1 r (fun e => hr (by unfold xrL xpL; simp only [List.mem_cons, List.not_mem_nil, or_false] at e ⊢; (clear h hc hn t1 t2 t3 t4 c1 c2 c3 r1 r2 r3 r4 r5 r6 m7 nq ld wn ba lk rn b146 wd1 xl e69 ql pl e14 b7 hq g147 g6 gv gw hR hx hqq w hr; lia)))]; exact xl r hr
    · refine q_216 (d := 20) ⟨hn.1, by (clear h hc t2 t3 t4 c1 c2 c3 r1 r2 r3 r4 r5 r6 m7 nq ld wn ba lk rn b146 wd1 xl e69 ql pl e14 b7 hq g147 g6 gw hR hx hqq w; omega)⟩ (by (clear h hc t2 t3 t4 c1 c2 c3 r1 r2 r3 r4 r5 r6 m7 nq ld wn ba lk rn b146 wd1 xl e69 ql pl e14 b7 hq g147 g6 gw hR hx hqq w; lia)) t4 (hq _ _ ⟨fun _ => ?_, fun h => absurd h (by decide)⟩)
      refine hqq 19 _ _ (fun N5 v => ⟨rfl, ?_⟩)
      generalize gdM (up_ N' 6 16 0) n = N4 at *
      obtain ⟨v1, v2, v3, v4⟩ := v
      have e146 : N' 146 = tqM N n 146 := ql.1 146 (by unfold QPRr; omega)
      have e147 : N' 147 = N 147 := by rw [ql.1 147 (by unfold QPRr; (clear h hc hn t1 t2 t3 t4 c1 c2 c3 r1 r2 r3 r4 r5 r6 m7 nq ld wn ba lk rn b146 wd1 xl e69 ql pl e14 b7 hq hR hx w g147 g6 gv gw hqq v1 v2 v3 v4 e146; lia)), tq_r (by decide) (by decide)]
      refine ⟨⟨fun r hr => ?_, fun i hi => ?_⟩, ⟨?_, by rw [v2 5 (by decide)]; exact gv.1, by rw [v2 6 (by decide)]; exact gv.2.1, by rw [v2 126 (by decide)]; exact gv.2.2.1, by rw [v2 163 (by decide)]; exact gv.2.2.2⟩, ⟨?_, ?_, fun i i0 i1 => ?_⟩, ?_, ?_, ⟨?_, ?_, ?_⟩, ?_⟩
      · rw [v1 r (by simp only [List.mem_cons, List.not_mem_nil, or_false]; (clear h hc hn t1 t2 t3 t4 c1 c2 c3 r1 r2 r3 r4 r5 r6 m7 nq ld wn ba lk rn b146 wd1 xl e69 ql pl e14 b7 hq hR hx w g147 g6 gv gw hqq v1 v2 v3 v4 e146 e147; lia)), g147 r (by (clear h hc hn t1 t2 t3 t4 c1 c2 c3 r1 r2 r3 r4 r5 r6 m7 nq ld wn ba lk rn b146 wd1 xl e69 ql pl e14 b7 hq hR hx w g147 g6 gv gw hqq v1 v2 v3 v4 e146 e147; lia)) (by (clear h hc hn t1 t2 t3 t4 c1 c2 c3 r1 r2 r3 r4 r5 r6 m7 nq ld wn ba lk rn b146 wd1 xl e69 ql pl e14 b7 hq hR hx w g147 g6 gv gw hqq v1 v2 v3 v4 e146 e147; lia)), ql.1 r (by unfold QPRr; (clear h hc hn t1 t2 t3 t4 c1 c2 c3 r1 r2 r3 r4 r5 r6 m7 nq ld wn ba lk rn b146 wd1 xl e69 ql pl e14 b7 hq hR hx w g147 g6 gv gw hqq v1 v2 v3 v4 e146 e147; lia)), tq_r (by omega) (by (clear h hc hn t1 t2 t3 t4 c1 c2 c3 r1 r2 r3 r4 r5 r6 m7 nq ld wn ba lk rn b146 wd1 xl e69 ql pl e14 b7 hq hR hx w g147 g6 gv gw hqq v1 v2 v3 v4 e146 e147; lia))]
      · have z : ∀ j : Int, j ∈ 3 :: 4 :: 5 :: 6 :: 11 :: 120 :: 126 :: 163 :: qpI → i ≠ j := fun j hj e => hi (by rw [e]; exact hj)
        rw [v2 i (z 120 (by decide)), g6 i (fun e => by have a1 := z 5 (by decide); have a2 := z 6 (by decide); have a3 := z 16 (by decide); have a4 := z 126 (by decide); have a5 := z 163 (by decide); simp only [List.mem_cons, List.not_mem_nil, or_false] at e; (clear h hc hn t1 t2 t3 t4 c1 c2 c3 r1 r2 r3 r4 r5 r6 m7 nq ld wn ba lk rn b146 wd1 xl e69 ql pl e14 b7 hq hR hx w g147 g6 gv gw hqq v1 v2 v3 v4 e146 e147 hi z; lia)), ql.2 i (fun e => hi (by simp only [List.mem_cons] at e ⊢; rcases e with e | e; simp only [e, true_or, or_true]; simp only [e, or_true])), tq_6 (z 3 (by decide)) (z 4 (by decide))]
      · rw [v2 3 (by decide), g6 3 (by decide), ql.2 3 (by decide)]; unfold tqM; rw [up_at]
      · unfold BY; rw [v1 146 (by decide), g147 146 (by decide) (by decide), e146]; exact b146
      · unfold BY; rw [v1 147 (by decide), gw, e146, e147]; exact BY_c2 b146 r6
      · rw [v1 147 (by decide), gw, e146, tq_146]
        unfold cp_
        rw [if_pos ⟨i0, i1⟩, if_pos ⟨i0, i1⟩]
      · refine PLB_T (PLA_B pl) ⟨fun r a b => w.1 r (by simp only [List.mem_cons, List.not_mem_nil, or_false]; (clear h hc hn t1 t2 t3 t4 c1 c2 c3 r1 r2 r3 r4 r5 r6 m7 nq ld wn ba lk rn b146 wd1 xl e69 ql pl e14 b7 hq hR hx w g147 g6 gv gw hqq v1 v2 v3 v4 e146 e147; lia)), fun i a b => w.2.1 i (by (clear h hc hn t1 t2 t3 t4 c1 c2 c3 r1 r2 r3 r4 r5 r6 m7 nq ld wn ba lk rn b146 wd1 xl e69 ql pl e14 b7 hq hR hx w g147 g6 gv gw hqq v1 v2 v3 v4 e146 e147; omega))⟩ ⟨fun r hr => ?_, fun i hi => ?_⟩
        · rw [v1 r (by simp only [List.mem_cons, List.not_mem_nil, or_false]; (clear h hc hn t1 t2 t3 t4 c1 c2 c3 r1 r2 r3 r4 r5 r6 m7 nq ld wn ba lk rn b146 wd1 xl e69 ql pl e14 b7 hq hR hx w g147 g6 gv gw hqq v1 v2 v3 v4 e146 e147; omega)), g147 r (by (clear h hc hn t1 t2 t3 t4 c1 c2 c3 r1 r2 r3 r4 r5 r6 m7 nq ld wn ba lk rn b146 wd1 xl e69 ql pl e14 b7 hq hR hx w g147 g6 gv gw hqq v1 v2 v3 v4 e146 e147; omega)) (by (clear h hc hn t1 t2 t3 t4 c1 c2 c3 r1 r2 r3 r4 r5 r6 m7 nq ld wn ba lk rn b146 wd1 xl e69 ql pl e14 b7 hq hR hx w g147 g6 gv gw hqq v1 v2 v3 v4 e146 e147; lia))]
        · rw [v2 i (fun e => by rw [e] at hi; revert hi; decide), g6 i (fun e => by revert hi e; unfold tfL; simp only [List.mem_cons, List.not_mem_nil, or_false]; (clear h hc hn t1 t2 t3 t4 c1 c2 c3 r1 r2 r3 r4 r5 r6 m7 nq ld wn ba lk rn b146 wd1 xl e69 ql pl e14 b7 hq hR hx w g147 g6 gv gw hqq v1 v2 v3 v4 e146 e147; omega))]
      · exact NGF_c (NGF_of pl) (fun r hr => w.1 r (by revert hr; simp only [List.mem_cons, List.not_mem_nil, or_false]; (clear h hc hn t1 t2 t3 t4 c1 c2 c3 r1 r2 r3 r4 r5 r6 m7 nq ld wn ba lk rn b146 wd1 xl e69 ql pl e14 b7 hq hR hx w g147 g6 gv gw hqq v1 v2 v3 v4 e146 e147; lia))) (w.2.1 0 (by decide)) (by rw [v2 17 (by decide), g6 17 (by decide)]) (by rw [v1 152 (by decide), g147 152 (by decide) (by decide)])
      · rw [w.2.2.1, v3]
      · rw [v3]; (clear h hc hn t1 t2 t3 t4 c1 c2 c3 r1 r2 r3 r4 r5 r6 m7 nq ld wn ba lk rn b146 wd1 xl e69 ql pl e14 b7 hq hx w g147 g6 gv gw hqq v1 v2 v4 e146 e147; lia)
      · intro k k0 k1
        rw [v3] at k1
        exact WAr_eq R w.2.2.2 v4 k k0 k1
      · rw [w.1 1 (by decide)]; exact b7
end LOx
end T455_lo
section T456_jn
/-! the calls of the law on one memory -/
section J1a
variable {c n : Int} {M N M' N' : mm_} {dx nx dq nq : Nat} {ax aq : List pv_}
theorem op_54 [Inhabited fz_] (h : TOP c M N) (hc : 0 ≤ c ∧ c ≤ 100) (hn : 0 ≤ n ∧ n ≤ M 0 6) : Tr_ wd0 pg0 133 101 [.inr (.inr 1), .inr (.inr 9), .inl n, .inr (.inr 5)] (up_ M 0 6 0) (ri_ fun v M1 => FX9 M M1
      ∧ (v = 0 → (LDP (swM M1) ∧ M1 1 2 = 5) ∧ ∀ M3, LDF (swM M1) M3 → Tr_ wd0 pg0 140 216 [.inr (.inr 6), .inl n] N (ri_ fun v' N' => v' = 0 ∧ FQ9 N N' ∧ TOP (c + 1) M3 N') (fun _ _ => False))
      ∧ (v ≠ 0 → Tr_ wd0 pg0 140 216 [.inr (.inr 6), .inl n] N (ri_ fun v' N' => v' = v ∧ FQ9 N N' ∧ TOP (c + 1) (up_ M1 0 71 (M1 1 5)) N') (fun _ _ => False))) (fun _ _ => False) := by
  obtain ⟨⟨⟨⟨⟨t1, t2⟩, t3, t4⟩, _⟩, ⟨r1, r2, r3, r4, r5, r6⟩, m7, _⟩, _⟩ := id h
  have a := x_101 (M := up_ M 0 6 0) (n := n) hn.1 (by omega) (by unfold RO_; rw [up_ne (by decide), up_ne (by decide), up_ne (by decide), up_ne (by decide)]; exact r1) (BY_c t3 (up_ne (by decide))) (BY_c r3 (up_ne (by decide))) (by rw [up_ne (by decide)]; (clear h hn t1 t2 t3 t4 r1 r2 r3 r4 r5 r6; omega))
  have b := op_54b h hc hn
  refine Tr_m (Tr_sp a) (fun vs M1 g => ?_) (fun r M1 g => g.1)
  obtain ⟨⟨v, e, e14, g1⟩, hall⟩ := g
  subst e
  obtain ⟨v', e', ⟨xl, e69⟩, k0, k1⟩ := hall _ _ b
  have ev : v' = v := by injection e' with e1; injection e1 with e1; exact e1.symm
  subst ev
  refine ri_i ⟨fun r hr => ?_, fun z => ⟨g1 z, fun M3 ml => ?_⟩, fun z => Tr_le (by decide) (k1 z)⟩
  · rw [xl r (by unfold xrL xpL; simp only [List.mem_cons, List.not_mem_nil, or_false]; (clear h hc hn t1 t2 t3 t4 r1 r2 r3 r4 r5 r6 m7 a b xl e69 k0 k1 e14 g1 hall e'; omega)), up_ne (by (clear h hc hn t1 t2 t3 t4 r1 r2 r3 r4 r5 r6 m7 a b xl e69 k0 k1 e14 g1 hall e'; omega))]
  · subst z
    refine Tr_le (d := 22) (by decide) (Tr_m (k0 rfl) (fun ws N' g => ?_) (fun _ _ h => h))
    obtain ⟨w, ew, w0, rs⟩ := g
    rw [ew]
    refine ri_i ⟨w0, fun r hr => rs.1.1 r (by (clear h hc hn t1 t2 t3 t4 r1 r2 r3 r4 r5 r6 m7 a b xl e69 ml k0 k1 e14 g1 hall e' ew w0 rs; omega)), LS_top h hn hc xl e69 rs ml (fun K Qt hk => ?_)⟩
    obtain ⟨u, eu, hu⟩ := hall _ _ hk
    have e0 : u = 0 := by injection eu with e1; injection e1 with e1; exact e1.symm
    subst e0
    exact hu
/-- only Q's roles are read of the second memory -/
theorem TOP_q [Inhabited fz_] (h : TOP c M N) (hq : ∀ r : Nat, (r = 6 ∨ (145 ≤ r ∧ r ≤ 266)) → N' r = N r) : TOP c M N' := by
  obtain ⟨⟨⟨⟨⟨t1, t2⟩, t3, t4⟩, c1⟩, ⟨r1, r2, r3, r4, r5, r6⟩, _⟩, _⟩ := id h
  have e6 := hq 6 (by decide)
  refine ⟨TBS_g h.1 (Int.le_refl _) ⟨⟨by rw [e6]; exact t1, by rw [hq 145 (by decide)]; exact t2⟩, t3, BY_c t4 (hq 145 (by decide))⟩ ?_ r4 (BY_c r5 (hq 146 (by decide))) (fun _ _ => rfl) rfl (fun r hr => hq r (by omega)) (fun i _ => by rw [e6]), TRN_f h.2 (Int.le_refl _) (fun _ _ => rfl) (fun _ _ => rfl) (fun r a b => hq r (by (clear h hq c1 t1 t2 t3 t4 r1 r2 r3 r4 r5 r6 e6; omega))) (fun i _ => by rw [e6])⟩
  unfold CPR
  rw [e6]; exact c1
/-- only X's roles are read of the first -/
theorem TOP_x [Inhabited fz_] (h : TOP c M N) (hx : ∀ r : Nat, ¬ (r = 6 ∨ (145 ≤ r ∧ r ≤ 266)) → M' r = M r) : TOP c M' N := by
  obtain ⟨⟨⟨⟨⟨t1, t2⟩, t3, t4⟩, c1⟩, ⟨r1, r2, r3, r4, r5, r6⟩, _⟩, _⟩ := id h
  have e0 := hx 0 (by decide)
  refine ⟨TBS_g h.1 (Int.le_refl _) ⟨⟨by rw [e0]; exact t1, by rw [e0, hx 9 (by decide)]; exact t2⟩, BY_c t3 (hx 9 (by decide)), t4⟩ ?_ (BY_c r4 (hx 74 (by decide))) r5 (fun r hr => hx r (by (clear h hx c1 t1 t2 t3 t4 r1 r2 r3 r4 r5 r6 e0; omega))) (by rw [e0]) (fun _ _ => rfl) (fun _ _ => rfl), TRN_f h.2 (Int.le_refl _) (fun r hr => hx r (by omega)) (fun i _ => by rw [e0]) (fun _ _ _ => rfl) (fun _ _ => rfl)⟩
  unfold CPR
  rw [e0]; exact c1
/-- a call of X, then one of Q, on one memory -/
def J1 [Inhabited fz_] (nx : Nat) (ax : List pv_) (nq : Nat) (aq : List pv_) (c : Int) (M : mm_) : Prop := Tr_ wd0 pg0 140 nx ax M (ri_ fun v M1 => M1 1000 = M 1000 ∧ Tr_ wd0 pg0 140 nq aq M1 (ri_ fun v' M2 => v' = v ∧ TOP (c + 1) M2 M2 ∧ M2 1000 = M 1000) (fun _ _ => False)) (fun _ _ => False)
theorem J1_of [Inhabited fz_] (h : TOP c M M) (j : ∀ N, TOP c M N → JT 140 nx ax 140 nq aq M N (TOP (c + 1))) : J1 nx ax nq aq c M := by
  refine Tr_m (Tr_sp (j M h)) (fun vs M1 g => ?_) (fun r M1 g => g.1)
  obtain ⟨⟨v, e, fx, _⟩, hall⟩ := g
  obtain ⟨v', e', _, hq⟩ := hall _ _ (j M1 (TOP_q h (fun r hr => fx r (by (clear h j hall e fx; lia)))))
  rw [e']
  refine ri_i ⟨fx 1000 (by decide), Tr_m hq (fun ws M2 g => ?_) (fun _ _ h => h)⟩
  obtain ⟨w, ew, w0, fq, t⟩ := g
  rw [ew]
  exact ri_i ⟨w0, TOP_x t fq, (fq 1000 (by decide)).trans (fx 1000 (by decide))⟩
/-- load, on one memory -/
theorem L1_of [Inhabited fz_] (h : TOP c M M) (hc : 0 ≤ c ∧ c ≤ 100) (hn : 0 ≤ n ∧ n ≤ M 0 6) : Tr_ wd0 pg0 133 101 [.inr (.inr 1), .inr (.inr 9), .inl n, .inr (.inr 5)] (up_ M 0 6 0) (ri_ fun v M1 => M1 1000 = M 1000 ∧
      (v = 0 → (LDP (swM M1) ∧ M1 1 2 = 5) ∧ ∀ M3, LDF (swM M1) M3 → Tr_ wd0 pg0 140 216 [.inr (.inr 6), .inl n] M3 (ri_ fun v' N' => v' = 0 ∧ TOP (c + 1) N' N' ∧ N' 1000 = M3 1000) (fun _ _ => False))
      ∧ (v ≠ 0 → Tr_ wd0 pg0 140 216 [.inr (.inr 6), .inl n] (up_ M1 0 71 (M1 1 5)) (ri_ fun v' N' => v' = v ∧ TOP (c + 1) N' N' ∧ N' 1000 = up_ M1 0 71 (M1 1 5) 1000) (fun _ _ => False))) (fun _ _ => False) := by
  refine Tr_m (Tr_sp (op_54 h hc hn)) (fun vs M1 g => ?_) (fun r M1 g => g.1)
  obtain ⟨⟨v, e, fx, k0, _⟩, hall⟩ := g
  subst e
  refine ri_i ⟨fx 1000 (by decide), fun z => ⟨(k0 z).1, fun M3 ml => ?_⟩, fun z => ?_⟩
  · have f3 : ∀ r : Nat, (r = 6 ∨ (145 ≤ r ∧ r ≤ 266)) → M3 r = M r := fun r hr => by
      rw [ml.1 r (by simp only [List.mem_cons, List.not_mem_nil, or_false]; (clear h hc hn fx k0 hall z ml; omega)), swM_r (by omega) (by omega) (by omega) (by omega)]; exact fx r (by (clear h hc hn fx k0 hall z ml; omega))
    obtain ⟨v', e', _, k, _⟩ := hall _ _ (op_54 (TOP_q h f3) hc hn)
    have ev : v' = v := by injection e' with e1; injection e1 with e1; exact e1.symm
    subst ev
    refine Tr_m ((k z).2 M3 ml) (fun ws M2 g => ?_) (fun _ _ h => h)
    obtain ⟨w, ew, w0, fq, t⟩ := g
    rw [ew]
    exact ri_i ⟨w0, TOP_x t fq, fq 1000 (by decide)⟩
  · have f3 : ∀ r : Nat, (r = 6 ∨ (145 ≤ r ∧ r ≤ 266)) → up_ M1 0 71 (M1 1 5) r = M r := fun r hr => by
      rw [up_ne (by omega)]; exact fx r (by (clear h hc hn fx k0 hall z; omega))
    obtain ⟨v', e', _, _, k⟩ := hall _ _ (op_54 (TOP_q h f3) hc hn)
    have ev : v' = v := by injection e' with e1; injection e1 with e1; exact e1.symm
    subst ev
    refine Tr_m (k z) (fun ws M2 g => ?_) (fun _ _ h => h)
    obtain ⟨w, ew, w0, fq, t⟩ := g
    rw [ew]
    exact ri_i ⟨w0, TOP_x t fq, fq 1000 (by decide)⟩
end J1a
end T456_jn

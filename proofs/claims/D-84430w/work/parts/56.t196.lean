section T196_tv
/-! inputs: within the brackets -/
def o1_ (M : mm_) : mm_ := up_ M 1 6 1
def q1_ (N : mm_) : mm_ := up_ N 6 15 1
section OO
variable {b F : Int} {M N Mx Mq : mm_} {t p k s j fr i v T a mask ee w kk : Int}
theorem o1_r [Inhabited gh_] {r : Nat} (h : r ≠ 1) : o1_ M r = M r := up_ne h
theorem o1_1 [Inhabited gh_] {i : Int} (h : i ≠ 6) : o1_ M 1 i = M 1 i := up_off h
theorem q1_r [Inhabited gh_] {r : Nat} (h : r ≠ 6) : q1_ N r = N r := up_ne h
theorem q1_6 [Inhabited gh_] {i : Int} (h : i ≠ 15) : q1_ N 6 i = N 6 i := up_off h
theorem o1_XF [Inhabited gh_] : XF M (o1_ M) := ⟨fun r hr => o1_r (fun c => hr (by rw [c]; decide)), fun i _ _ _ h6 _ => o1_1 h6, fun i _ => by rw [o1_r (by decide)]⟩
theorem q1_QF [Inhabited gh_] : QF N (q1_ N) := ⟨fun r hr => q1_r (fun c => hr (by rw [c]; decide)), fun i _ _ _ h _ _ _ _ => q1_6 h⟩
theorem nX_o1 [Inhabited gh_] : nX_ (o1_ M) = o1_ (nX_ M) := by
  unfold nX_ o1_
  rw [up_off (by decide), up_cc (.inr (by decide))]
theorem nx_q1 [Inhabited gh_] : nx_ (q1_ N) = q1_ (nx_ N) := by
  unfold nx_ q1_
  rw [up_off (by decide), up_cc (.inr (by decide))]
theorem nt1_o1 [Inhabited gh_] : nt1_ (o1_ M) k t = o1_ (nt1_ M k t) := by
  unfold nt1_
  rw [o1_1 (by decide), o1_1 (by decide), o1_1 (by decide), o1_r (by decide)]
  unfold o1_
  split
  · rw [up_cc (r := 1) (i := 6) (i' := 7) (.inr (by decide)), up_cc (r := 1) (i := 6) (i' := 4) (.inr (by decide)), up_cc (r := 1) (i := 6) (i' := 5) (.inr (by decide))]
  · rw [up_cc (r := 1) (i := 6) (i' := 7) (.inr (by decide))]
theorem itx_o1 [Inhabited gh_] : ∀ (n : Nat) (M : mm_), itx t n (o1_ M) = o1_ (itx t n M)
  | 0, M => rfl
  | n + 1, M => by
    show itx t n (nt1_ (o1_ M) 3 t) = o1_ (itx t n (nt1_ M 3 t))
    rw [nt1_o1]; exact itx_o1 n _
theorem Xn_o1 [Inhabited gh_] : Xn_ (o1_ M) b k t = o1_ (Xn_ M b k t) := by
  unfold Xn_; split
  · rfl
  · exact nt1_o1
theorem tkK_o1 [Inhabited gh_] : tkK (o1_ M) T v s j = tkK M T v s j := tkK_c fun r h => o1_r h
theorem tkX_o1 [Inhabited gh_] : tkX (o1_ M) T v s j t k = o1_ (tkX M T v s j t k) := by
  unfold tkX
  rw [tkK_o1, Xn_o1, Xn_o1, o1_r (by decide)]
  split
  · rfl
  · unfold o1_; rw [up_cc (.inl (by decide))]
theorem nt_q1 [Inhabited gh_] : nt_ (q1_ N) k p = q1_ (nt_ N k p) := by
  unfold nt_ bf_
  rw [q1_6 (by decide), q1_6 (by decide), q1_6 (by decide)]
  split
  · rfl
  · split
    · unfold q1_
      rw [up_cc (r := 6) (i := 15) (i' := 13) (.inr (by decide)), up_cc (r := 6) (i := 15) (i' := 14) (.inr (by decide))]
    · rfl
theorem itq_q1 [Inhabited gh_] : ∀ (n : Nat) (N : mm_), itq p n (q1_ N) = q1_ (itq p n N)
  | 0, N => rfl
  | n + 1, N => by
    show itq p n (nt_ (q1_ N) 3 p) = q1_ (itq p n (nt_ N 3 p))
    rw [nt_q1]; exact itq_q1 n _
theorem Qn_q1 [Inhabited gh_] : Qn_ (q1_ N) b k p = q1_ (Qn_ N b k p) := by
  unfold Qn_; split
  · rfl
  · exact nt_q1
theorem tkQ_q1 [Inhabited gh_] : tkQ (o1_ M) (q1_ N) T v s j p i = q1_ (tkQ M N T v s j p i) := by
  unfold tkQ
  rw [tkK_o1, Qn_q1, Qn_q1, q1_r (by decide)]
  split
  · rfl
  · unfold q1_; rw [up_cc (.inl (by decide))]
/-- the state behind the j-th variable -/
def tX9_ (M N : mm_) (s j fr t k : Int) : mm_ := tkX (itx t (dpc (N 151) (N 151 t) j.toNat (fr + 1)) M) (M 1 18) (vrr N (N 151 t)) s j t k
def tQ9_ (M N : mm_) (s j fr t i : Int) : mm_ := tkQ M (itq (M 71 t) (dpc (N 151) (N 151 t) j.toNat (fr + 1)) N) (M 1 18) (vrr N (N 151 t)) s j (M 71 t) i
theorem tX9_o1 [Inhabited gh_] : tX9_ (o1_ M) (q1_ N) s j fr t k = o1_ (tX9_ M N s j fr t k) := by
  unfold tX9_
  rw [itx_o1, tkX_o1, q1_r (by decide), vrr_c q1_QF, o1_1 (by decide)]
theorem tQ9_q1 [Inhabited gh_] : tQ9_ (o1_ M) (q1_ N) s j fr t i = q1_ (tQ9_ M N s j fr t i) := by
  unfold tQ9_
  rw [o1_r (by decide), itq_q1, tkQ_q1, q1_r (by decide), vrr_c q1_QF, o1_1 (by decide)]
/-- SL does not see 137, 202 -/
theorem SL_37 [Inhabited gh_] (h : SL b F Mx Mq a mask ee w) {c v c' v' : Int} : SL b F (up_ Mx 137 c v) (up_ Mq 202 c' v') a mask ee w := by
  obtain ⟨h1, ⟨s1, s2, s3⟩, hm, h4⟩ := h
  have e : ∀ r : Nat, r ≠ 137 → up_ Mx 137 c v r = Mx r := fun r h => up_ne h
  have q : ∀ r : Nat, r ≠ 202 → up_ Mq 202 c' v' r = Mq r := fun r h => up_ne h
  have xb : XSb Mx (up_ Mx 137 c v) := ⟨fun r hr => e r (fun h => hr (by rw [h]; decide)), fun i hi => by rw [e 1 (by decide)], fun i _ _ => by rw [e 5 (by decide)]⟩
  have qb : QSb Mq (up_ Mq 202 c' v') := ⟨fun r hr => q r (fun h => hr (by rw [h]; decide)), fun i hi => by rw [q 6 (by decide)]⟩
  refine ⟨TS_c h1 xb qb (fun i h _ => by rw [e 1 (by decide)]) (by rw [e 5 (by decide)]) (e _ (by decide)) (e _ (by decide)) (e _ (by decide)) (e _ (by decide)) (fun _ _ _ => by rw [q 6 (by decide)]) (q _ (by decide)) (q _ (by decide)) (q _ (by decide)) (q _ (by decide)) (q _ (by decide)), ⟨by rw [e 5 (by decide)]; exact s1, by rw [q 6 (by decide)]; exact s2, by rw [q 6 (by decide)]; exact s3⟩, hm, fun hb => ?_⟩
  obtain ⟨⟨xs, hs⟩, hmb, r⟩ := h4 hb
  refine ⟨⟨xs, SRW_c hs (by rw [e 5 (by decide)]) (e _ (by decide)) (e _ (by decide)) (e _ (by decide)) (e _ (by decide)) (e _ (by decide)) (by rw [q 6 (by decide)]) (by rw [q 6 (by decide)]) (q _ (by decide)) (q _ (by decide)) (q _ (by decide)) (q _ (by decide)) (q _ (by decide)) (q _ (by decide))⟩, ?_, ?_⟩
  · rw [e 1 (by decide), e 123 (by decide)]; exact hmb
  · rw [e 1 (by decide), q 6 (by decide), q 193 (by decide), q 192 (by decide), q 194 (by decide)]; exact r
theorem SL_it [Inhabited gh_] : ∀ (n : Nat) (M N : mm_), gd_ M t → SL 1 F M N a mask ee w → M 1 7 + n + 8 * (1201 - a) ≤ 1000000000 - (gg_ : Int) → SL 1 F (itx t n M) (itq (M 71 t) n N) a mask ee w ∧ (itq (M 71 t) n N 6 13 = 0 → N 6 13 = 0)
  | 0, M, N, _, h, _ => ⟨h, fun e => e⟩
  | n + 1, M, N, ht, h, hf => by
    have s := SL_n (kk := 3) h (.inr (by decide)) ht (by omega)
    have e1 : Xn_ M 1 3 t = nt1_ M 3 t := by unfold Xn_; rw [if_neg (by omega)]
    have e2 : Qn_ N 1 3 (M 71 t) = nt_ N 3 (M 71 t) := by unfold Qn_; rw [if_neg (by omega)]
    rw [e1, e2] at s
    have r := SL_it n (nt1_ M 3 t) (nt_ N 3 (M 71 t)) (gd_c (nt1_r (by decide)) ht) s.1 (by rw [nt1_7]; omega)
    rw [nt1_r (r := 71) (by decide)] at r
    exact ⟨r.1, fun e => absurd (s.2.2 rfl (r.2 e)).1 (by decide)⟩
/-- a variable takes a value: SL stays -/
theorem SL_tk [Inhabited gh_] (h : SL 1 F M N a mask ee w) (ht : gd_ M t) (hj : 0 ≤ j ∧ j ≤ 3) (hf : M 1 7 + 4 + 8 * (1201 - a) ≤ 1000000000 - (gg_ : Int)) : SL 1 F (tX9_ M N s j fr t k) (tQ9_ M N s j fr t i) a mask ee w ∧ (tQ9_ M N s j fr t i 6 13 = 0 → N 6 13 = 0 ∧ vrr N (N 151 t) ≠ -1 ∧ tkK M (M 1 18) (vrr N (N 151 t)) s j = 0) := by
  have dl := dpc_le (f := N 151) (v := N 151 t) j.toNat (fr + 1)
  have r := SL_it (dpc (N 151) (N 151 t) j.toNat (fr + 1)) M N ht h (by omega)
  have e17 := itx_7 (t := t) (dpc (N 151) (N 151 t) j.toNat (fr + 1)) M
  unfold tX9_ tQ9_
  generalize eM : itx t (dpc (N 151) (N 151 t) j.toNat (fr + 1)) M = M1 at *
  generalize itq (M 71 t) (dpc (N 151) (N 151 t) j.toNat (fr + 1)) N = N1 at *
  have hr : ∀ r : Nat, r ≠ 1 → M1 r = M r := fun r h => by rw [← eM]; exact itx_r h _ _
  have ek : tkK M1 (M 1 18) (vrr N (N 151 t)) s j = tkK M (M 1 18) (vrr N (N 151 t)) s j := tkK_c hr
  have kr := tkK_r (M := M) (T := M 1 18) (v := vrr N (N 151 t)) (s := s) (j := j)
  have g1 : gd_ M1 t := gd_c (hr 70 (by decide)) ht
  unfold tkX tkQ
  rw [ek]
  by_cases c : vrr N (N 151 t) = -1
  · rw [if_pos c, if_pos c]
    have s4 := SL_n (kk := 4) r.1 (.inr (by decide)) g1 (by omega)
    rw [hr 71 (by decide)] at s4
    exact ⟨s4.1, fun e => absurd (s4.2.2 rfl e).1 (by decide)⟩
  · rw [if_neg c, if_neg c]
    have s4 := SL_n (kk := tkK M (M 1 18) (vrr N (N 151 t)) s j) r.1 kr g1 (by omega)
    rw [hr 71 (by decide)] at s4
    refine ⟨SL_37 s4.1, fun e => ?_⟩
    rw [up_ne (by decide)] at e
    have := s4.2.2 rfl e
    exact ⟨r.2 this.2, c, this.1⟩
end OO
end T196_tv
section T197_tv
/-! inputs: what the variables in brackets add -/
def GV (b T s : Int) (M N M' N' : mm_) (k i j j' : Int) : Prop := (Fr_ [1, 137] M M' ∧ (∀ x : Int, x ≠ 3 → x ≠ 4 → x ≠ 5 → x ≠ 7 → M' 1 x = M 1 x) ∧ (b = 0 → M' 137 = M 137) ∧ (∀ x, x < 3 * k + j → M' 137 x = M 137 x))
  ∧ (Fr_ [6, 202] N N' ∧ (∀ x : Int, x ≠ 12 → x ≠ 13 → x ≠ 14 → N' 6 x = N 6 x) ∧ (∀ x, x < 3 * i + j → N' 202 x = N 202 x))
  ∧ (b = 1 → N' 6 13 = 0 → N 6 13 = 0 ∧ ∀ v, j ≤ v → v < j' → M' 137 (3 * k + v) = N' 202 (3 * i + v) ∧ ∃ u, (0 ≤ u ∧ u < N 171 T) ∧ N' 202 (3 * i + v) = N 184 (8 * T + u) ∧ N 183 (8 * T + u) = 0 ∧ (0 ≤ s → s < 100 → v < M 112 s → M 113 (3 * s + v) = M 130 (8 * T + u)))
section GV
variable {b F T : Int} {M N M1 N1 M2 N2 : mm_} {t p k s j j1 j2 fr i v a mask ee w kk : Int}
theorem GV_tr [Inhabited gh_] (hj : j ≤ j1) (h1 : GV b T s M N M1 N1 k i j j1) (h2 : GV b T s M1 N1 M2 N2 k i j1 j2) : GV b T s M N M2 N2 k i j j2 := by
  obtain ⟨⟨a1, a2, a3, a4⟩, ⟨b1, b2, b3⟩, c1⟩ := h1
  obtain ⟨⟨d1, d2, d3, d4⟩, ⟨e1, e2, e3⟩, c2⟩ := h2
  refine ⟨⟨Fr_tr a1 d1, fun x p q r s => (d2 x p q r s).trans (a2 x p q r s), fun hb => (d3 hb).trans (a3 hb), fun x h => (d4 x (by omega)).trans (a4 x h)⟩, ⟨Fr_tr b1 e1, fun x p q r => (e2 x p q r).trans (b2 x p q r), fun x h => (e3 x (by omega)).trans (b3 x h)⟩, fun hb hz => ?_⟩
  obtain ⟨z1, z2⟩ := c2 hb hz
  obtain ⟨y1, y2⟩ := c1 hb z1
  refine ⟨y1, fun v v0 v1 => ?_⟩
  by_cases c : v < j1
  · rw [d4 _ (by omega), e3 _ (by omega)]; exact y2 v v0 c
  · have := z2 v (by omega) v1
    rw [b1 171 (by decide), b1 184 (by decide), b1 183 (by decide), a1 112 (by decide), a1 113 (by decide), a1 130 (by decide)] at this
    exact this
theorem GV_0 [Inhabited gh_] (hx : XF M M1) (h142 : M1 142 = M 142) (h5 : M1 5 = M 5) (h16 : M1 1 6 = M 1 6) (hq : ∀ r : Nat, r ≠ 6 → N1 r = N r) (hq6 : ∀ x : Int, x ≠ 12 → x ≠ 13 → x ≠ 14 → N1 6 x = N 6 x) (h13 : b = 1 → N1 6 13 = 0 → N 6 13 = 0) : GV b T s M N M1 N1 k i j j := by
  have e : ∀ r : Nat, r ≠ 1 → M1 r = M r := fun r h1 => by
    by_cases c : r = 142
    · rw [c]; exact h142
    · by_cases c5 : r = 5
      · rw [c5]; exact h5
      · exact hx.1 r (by simp only [List.mem_cons, List.not_mem_nil, or_false, not_or]; exact ⟨h1, c5, c⟩)
  refine ⟨⟨fun r hr => e r (fun c => hr (by rw [c]; decide)), fun x h3 h4 h5 h7 => ?_, fun _ => e 137 (by decide), fun x _ => by rw [e 137 (by decide)]⟩, ⟨fun r hr => hq r (fun c => hr (by rw [c]; decide)), hq6, fun x _ => by rw [hq 202 (by decide)]⟩, fun hb hz => ⟨h13 hb hz, fun v a b => by omega⟩⟩
  by_cases c : x = 6
  · rw [c]; exact h16
  · exact hx.2.1 x h3 h4 h5 c h7
theorem GV_go [Inhabited gh_] : GV b T s M N (nX_ M) (nx_ N) k i j j := GV_0 nX_XF (nX_ne (by decide)) (nX_ne (by decide)) (nX_1 (by decide)) (fun r h => nx_ne h) (fun x h _ _ => nx_6 h) (fun _ h => by rw [nx_6 (by decide)] at h; exact h)
theorem GV_tk [Inhabited gh_] (hV : VT M N) (hj : 0 ≤ j) (h13 : tQ9_ M N s j fr t i 6 13 = 0 → N 6 13 = 0 ∧ vrr N (N 151 t) ≠ -1 ∧ tkK M (M 1 18) (vrr N (N 151 t)) s j = 0) : GV 1 (M 1 18) s M N (tX9_ M N s j fr t k) (tQ9_ M N s j fr t i) k i j (j + 1) := by
  have xf := itx_XF (t := t) (M := M) (dpc (N 151) (N 151 t) j.toNat (fr + 1))
  have qf := itq_QF (p := M 71 t) (N := N) (dpc (N 151) (N 151 t) j.toNat (fr + 1))
  have hr : ∀ r : Nat, r ≠ 1 → itx t (dpc (N 151) (N 151 t) j.toNat (fr + 1)) M r = M r := fun r h => itx_r h _ _
  have hr1 : ∀ x : Int, x ≠ 4 → x ≠ 5 → x ≠ 7 → itx t (dpc (N 151) (N 151 t) j.toNat (fr + 1)) M 1 x = M 1 x := fun x h4 h5 h7 => itx_1 h4 h5 h7 _ _
  have qr : ∀ r : Nat, r ≠ 6 → itq (M 71 t) (dpc (N 151) (N 151 t) j.toNat (fr + 1)) N r = N r := fun r h => itq_r h _ _
  have qr6 : ∀ x : Int, x ≠ 13 → x ≠ 14 → itq (M 71 t) (dpc (N 151) (N 151 t) j.toNat (fr + 1)) N 6 x = N 6 x := fun x h4 h5 => itq_6 h4 h5 _ _
  have vr := vrr_r hV (v := N 151 t)
  unfold tX9_ tQ9_ at *
  generalize itx t (dpc (N 151) (N 151 t) j.toNat (fr + 1)) M = M1 at *
  generalize itq (M 71 t) (dpc (N 151) (N 151 t) j.toNat (fr + 1)) N = N1 at *
  have ek : tkK M1 (M 1 18) (vrr N (N 151 t)) s j = tkK M (M 1 18) (vrr N (N 151 t)) s j := tkK_c hr
  unfold tkX
  unfold tkQ at h13 ⊢
  rw [ek]
  by_cases c : vrr N (N 151 t) = -1
  · rw [if_pos c] at h13
    rw [if_pos c, if_pos c]
    refine ⟨⟨fun r h => (Xn_r (fun e => h (by rw [e]; decide))).trans (hr r (fun e => h (by rw [e]; decide))), fun x h3 h4 h5 h7 => (Xn_1 h4 h5 h7).trans (hr1 x h4 h5 h7), fun hb => by omega, fun x _ => by rw [Xn_r (by decide), hr 137 (by decide)]⟩, ⟨fun r h => (Qn_r (fun e => h (by rw [e]; decide))).trans (qr r (fun e => h (by rw [e]; decide))), fun x _ h1 h2 => (Qn_6 h1 h2).trans (qr6 x h1 h2), fun x _ => by rw [Qn_r (by decide), qr 202 (by decide)]⟩, fun _ hz => ⟨(h13 hz).1, ?_⟩⟩
    exact absurd c (h13 hz).2.1
  · rw [if_neg c] at h13
    rw [if_neg c, if_neg c]
    refine ⟨⟨fun r h => ?_, fun x h3 h4 h5 h7 => ?_, fun hb => by omega, fun x h => ?_⟩, ⟨fun r h => ?_, fun x _ h1 h2 => ?_, fun x h => ?_⟩, fun _ hz => ⟨(h13 hz).1, fun v v0 v1 => ?_⟩⟩
    · rw [up_ne (fun e => h (by rw [e]; decide)), Xn_r (fun e => h (by rw [e]; decide)), hr r (fun e => h (by rw [e]; decide))]
    · rw [up_ne (by decide), Xn_1 h4 h5 h7, hr1 x h4 h5 h7]
    · rw [up_of2 (by omega), Xn_r (by decide), hr 137 (by decide)]
    · rw [up_ne (fun e => h (by rw [e]; decide)), Qn_r (fun e => h (by rw [e]; decide)), qr r (fun e => h (by rw [e]; decide))]
    · rw [up_ne (by decide), Qn_6 h1 h2, qr6 x h1 h2]
    · rw [up_of2 (by omega), Qn_r (by decide), qr 202 (by decide)]
    · have k0 := (h13 hz).2.2
      have e61 := hV.2.1
      rw [e61] at vr
      have v8 : 0 ≤ vrr N (N 151 t) ∧ vrr N (N 151 t) < M 124 (M 1 18) := by have := hV.2.2.2.2.1.2.2; omega
      have rw8 := hV.2.2.2.2.2.2.1 _ v8.1 v8.2
      have b31 : M 131 (8 * M 1 18 + vrr N (N 151 t)) ≤ 0 := by
        unfold tkK at k0
        rw [if_neg c] at k0
        by_cases c1 : M 131 (8 * M 1 18 + vrr N (N 151 t)) ≤ 0
        · exact c1
        · rw [if_neg c1] at k0; omega
      rw [show v = j by omega, up_at, up_at, hr 132 (by decide), qr 184 (by decide)]
      refine ⟨rw8.2.2.2.2.1, vrr N (N 151 t), ⟨v8.1, by have := hV.2.2.2.2.1.2.2; omega⟩, rfl, by omega, fun s0 s1 s2 => ?_⟩
      unfold tkK at k0
      rw [if_neg c, if_pos b31, if_neg (by omega), if_pos s1, if_pos s2] at k0
      by_cases c9 : M 113 (3 * s + j) = M 130 (8 * M 1 18 + vrr N (N 151 t))
      · exact c9
      · rw [if_neg c9] at k0; omega
end GV
end T197_tv
section T198_tv
/-! inputs: the loop within the brackets (X 169 V 135 | Q 310 V 18) -/
def ivT (κ : Int → Int) (s : Int × Int) : Option ((Int × Int) ⊕ Int) := (gS s.1).bind fun a1 => if s.2 = 3 then none else (tS κ 100 a1).bind fun a2 => if κ a2 = 244 then some (.inl (a2, s.2 + 1)) else (tS κ 241 a2).bind fun a3 => some (.inr a3)
def IV (κ : Int → Int) (s : Int × Int) : Option Int := LPz (ivT κ) s
section IVs
variable {κ : Int → Int} {a j : Int}
theorem ivT_y [Inhabited gh_] {L : Int × Int → Option Int} {X : Option Int} (h12 : a < 1200) (hj : j ≠ 3) (hX : tS κ 100 (a + 1) = X) : (ivT κ (a, j)).bind (lk8_ L) = X.bind fun a2 => if κ a2 = 244 then L (a2, j + 1) else tS κ 241 a2 := by
  unfold ivT
  simp only [gS_e h12, Option.bind_some, if_neg hj, hX]
  cases X with
  | none => rfl
  | some a1 =>
    rw [Option.bind_some, Option.bind_some]
    by_cases c : κ a1 = 244
    · rw [if_pos c, if_pos c]; rfl
    · rw [if_neg c, if_neg c]
      cases tS κ 241 a1 with
      | none => rfl
      | some a2 => rfl
theorem ivT_l [Inhabited gh_] (s s' : Int × Int) (h0 : 0 ≤ s.1) (h1 : s.1 ≤ 1200) (h : ivT κ s = some (.inl s')) : s.1 + 1 ≤ s'.1 ∧ s'.1 ≤ 1200 := by
  unfold ivT at h
  cases e : gS s.1 with
  | none => rw [e] at h; exact absurd h (by simp only [Option.bind_none]; intro x; cases x)
  | some a1 =>
    rw [e, Option.bind_some] at h
    have g := gS_s e
    by_cases c3 : s.2 = 3
    · rw [if_pos c3] at h; cases h
    · rw [if_neg c3] at h
      cases e2 : tS κ 100 a1 with
      | none => rw [e2] at h; exact absurd h (by simp only [Option.bind_none]; intro x; cases x)
      | some a2 =>
        rw [e2, Option.bind_some] at h
        have t := tS_s e2
        by_cases c : κ a2 = 244
        · rw [if_pos c] at h
          injection h with h; injection h with h
          rw [← h]; show s.1 + 1 ≤ a2 ∧ a2 ≤ 1200; omega
        · rw [if_neg c] at h
          cases e3 : tS κ 241 a2 with
          | none => rw [e3] at h; exact absurd h (by simp only [Option.bind_none]; intro x; cases x)
          | some a3 => rw [e3, Option.bind_some] at h; injection h with h; cases h
theorem IV_u [Inhabited gh_] (h0 : 0 ≤ a) (h1 : a ≤ 1200) : IV κ (a, j) = (ivT κ (a, j)).bind (lk8_ (IV κ)) := LP_u (step := ivT κ) (fun s => s.1) (fun s s' => ivT_l s s') (s := (a, j)) h0 h1
theorem IV_e [Inhabited gh_] (h0 : 0 ≤ a) (h12 : a < 1200) (hj : j ≠ 3) : IV κ (a, j) = (tS κ 100 (a + 1)).bind fun a2 => if κ a2 = 244 then IV κ (a2, j + 1) else tS κ 241 a2 := (IV_u h0 (Int.le_of_lt h12)).trans (ivT_y h12 hj rfl)
theorem IV_3 [Inhabited gh_] (h0 : 0 ≤ a) (h1 : a ≤ 1200) : IV κ (a, 3) = none := by
  have e := IV_u (κ := κ) (j := 3) h0 h1
  have e2 : ivT κ (a, 3) = none := by
    unfold ivT
    cases gS a with
    | none => simp only [Option.bind_none]
    | some a3 => simp only [Option.bind_some, if_true]
  rw [e2, Option.bind_none] at e
  exact e
theorem IV_g [Inhabited gh_] (h0 : 0 ≤ a) (h1 : a ≤ 1200) (h : IV κ (a, j) ≠ none) : a < 1200 := by
  have e := IV_u (κ := κ) (j := j) h0 h1
  rw [e] at h
  have h := bind_n h
  unfold ivT at h
  exact gS_n (bind_n h)
end IVs
/-- X's rest behind the brackets of an in -/
def R201 (d : Nat) (Qr : List pv_ → mm_ → Prop) (Qt : qt_) (x1 x2 x3 x4 : Int) (M2 : mm_) : Prop :=
    (bl_ (M2 1 8) → (if M2 1 8 = 0 then
     Qr [] (up_ M2 1 6 (w32 ((M2 1 6) - 1)))
    else
     (if x2 = (-1) then
      Qr [] (up_ M2 1 6 (w32 ((M2 1 6) - 1)))
     else
      M2 1 2 = 5 ∧
       (0 ≤ x3 ∧ x3 < 600) ∧
       (if x2 < 100 then
       M2 1 2 = 5 ∧
        (0 ≤ x2 ∧ x2 < 20) ∧
        (if w32 (x4 + 1) = M2 112 x2 then
        Qr [] (up_ (up_ M2 1 6 (w32 ((M2 1 6) - 1))) 138 x3 (w32 (x4 + 1)))
       else
        Tr_ wd0 pg0 d 116 [.inr (.inr 1), .inl 5, .inl x1] (up_ (up_ M2 1 6 (w32 ((M2 1 6) - 1))) 138 x3 (w32 (x4 + 1))) (rv_ fun M4 =>
         Qr [] M4) Qt)
      else
       (if w32 (x4 + 1) = 0 then
        Qr [] (up_ (up_ M2 1 6 (w32 ((M2 1 6) - 1))) 138 x3 (w32 (x4 + 1)))
       else
        Tr_ wd0 pg0 d 116 [.inr (.inr 1), .inl 5, .inl x1] (up_ (up_ M2 1 6 (w32 ((M2 1 6) - 1))) 138 x3 (w32 (x4 + 1))) (rv_ fun M3 =>
         Qr [] M3) Qt)))))
/-- Q within the brackets: at a name -/
def q10 (dq : Nat) (i who p fr j : Int) (N : mm_) (G : mm_ → Prop) (Qt : qt_) : Prop := ∀ V : vv_, Cl_ wd0 (Tr_ wd0 pg0 (dq + 14)) V (rv_ G) Qt m_310 → Wk_ V → V 18 [rr 6, ii i, ii who, ii p, ii j, ii (fr + 1), ii 1, none] [] (q1_ (nx_ N))
/-- Q within the brackets: at their end -/
def q10e (dq : Nat) (i who p fr j : Int) (N : mm_) (G : mm_ → Prop) (Qt : qt_) : Prop := ∀ V : vv_, Cl_ wd0 (Tr_ wd0 pg0 (dq + 14)) V (rv_ G) Qt m_310 → Wk_ V → V 102 [rr 6, ii i, ii who, ii p, ii j, ii (fr + 1), ii 0, none] [] (q1_ N)
section TM
variable {d dq : Nat} {b F : Int} {M N Mx Mq : mm_} {t p k s j fr i v T a mask ee w kk who x1 x2 x3 x4 x5 x6 x7 : Int} {Kv G : mm_ → Prop} {Qr : List pv_ → mm_ → Prop} {Qt Qtq : qt_} {V : vv_}
theorem ER_o1 [Inhabited gh_] (h : ER b F M N a 0) : ER b F (o1_ M) (q1_ N) a 1 := ER_o h (by decide)
/-- Q stopped behind a name in brackets -/
theorem q61_s [Inhabited gh_] (hV : Cl_ wd0 (Tr_ wd0 pg0 (dq + 14)) V (rv_ G) Qtq m_310) (hW : Wk_ V) (hs : sp_ N) (h : G N) : V 61 [rr 6, ii x1, ii x2, ii x3, ii x4, ii x5, ii x6, ii x7] [] N := b_310_61 (Tr_mono _) hV hW _ _ _ _ _ _ _ _ (q_227s hs (by rw [if_neg (by decide)]; exact rv_i h))
theorem q102_s [Inhabited gh_] (hV : Cl_ wd0 (Tr_ wd0 pg0 (dq + 14)) V (rv_ G) Qtq m_310) (hW : Wk_ V) (hs : sp_ N) (h : G N) : V 102 [rr 6, ii x1, ii x2, ii x3, ii x4, ii x5, ii x6, none] [] N := b_310_102 (Tr_mono _) hV hW _ _ _ _ _ _ _ (q_243s hs (q_227s hs (by rw [if_neg (by decide)]; exact rv_i h)))
theorem q18_s [Inhabited gh_] (hV : Cl_ wd0 (Tr_ wd0 pg0 (dq + 14)) V (rv_ G) Qtq m_310) (hW : Wk_ V) (hs : sp_ N) (h : G N) : V 18 [rr 6, ii x1, ii x2, ii x3, ii x4, ii x5, ii x6, none] [] N := by
  refine b_310_18 (Tr_mono _) hV hW _ _ _ _ _ _ _ ?_
  by_cases c : x6 = 0
  · rw [if_pos c]; exact q102_s hV hW hs h
  · rw [if_neg c]; exact q_227s hs (by rw [if_neg (by decide)]; exact q102_s hV hW hs h)
end TM
end T198_tv
section T199_tv
/-! inputs: the loop within the brackets, its steps -/
section TN
variable {d dq : Nat} {b F : Int} {t p k s fr i mask : Int} {Kv : mm_ → Prop} {Qr : List pv_ → mm_ → Prop} {Qt : qt_} {V : vv_}
theorem l_169 [Inhabited gh_] (hV : Cl_ wd0 (Tr_ wd0 pg0 (d + 5)) V Qr Qt m_169) (hW : Wk_ V) :
    ∀ (n : Nat) (a j ee : Int) (M N : mm_), 1201 - a ≤ (n : Int) → SL b F M N a mask ee 0 → a < 1200 → (M 70 a = 240 ∨ M 70 a = 244) → ee ≤ 1 → (0 ≤ j ∧ j ≤ 3) → 0 ≤ fr → a = fr + 2 * j → (∀ l, 0 ≤ l → l < j → nm9_ M (fr + 1 + 2 * l)) →
    (b = 1 → (k = M 5 4 - 1 ∧ 0 ≤ k) ∧ (s = -1 ∨ (0 ≤ s ∧ s < M 5 0) ∨ (100 ≤ s ∧ s < 103))) → (i = N 6 63 - 1 ∧ 0 ≤ i) → (b = 1 → IV (M 70) (a, j) ≠ none) →
    (∀ M' N' a' j', SL b F M' N' a' mask (ee + a - a') 0 → a + 2 ≤ a' → (j ≤ j' ∧ j' ≤ 2) → GV b (M 1 18) s M N M' N' k i j (j' + 1) → IV (M 70) (a, j) = tS (M 70) 241 a' → M' 70 a' ≠ 244 → (∀ (G : mm_ → Prop) (Qtq : qt_), q10e dq i s p fr (j' + 1) N' G Qtq → q10 dq i s p fr j N G Qtq) → Tr_ wd0 pg0 (d + 5) 121 [.inr (.inr 1), .inl 41] (o1_ M') (rv_ (R201 (d + 5) Qr Qt t (if b = 0 then -1 else s) (if b = 0 then -1 else k) j')) Qt) →
    (b = 0 → ∀ Mx', XSb M Mx' → (∀ (G : mm_ → Prop) (Qtq : qt_), (∀ M', SQb Mx' N M' → G M') → q10 dq i s p fr j N G Qtq) → Qt 8 Mx') →
    V 135 [rr 1, ii t, ii (if b = 0 then -1 else s), ii (if b = 0 then -1 else k), ii j, ii fr, none] [] (o1_ M)
  | 0, a, j, ee, M, N, hn, h, h12, _, _, _, _, _, _, _, _, _, _, _ => by omega
  | n + 1, a, j, ee, M, N, hn, h, h12, hc, he, hj, hfr, ha2, hnm, hks, hi, hS, hK, hQ => by
    have hE := TS_E h.1
    have ha := ER_a hE
    have h01 := bl01 hE
    have bnd := h.2.1
    have fl := h.1.2.2.2.2.2.1
    have hkd : M 70 a ≠ 102 ∧ M 70 a ≠ 103 := by omega
    have hE1 := (ER_go hE h12 hkd).1
    have S1 := SL_go h hE1
    have x70 : nX_ M 70 = M 70 := nX_ne (by decide)
    have oE := ER_o1 hE
    have oE1 := ER_o1 hE1
    have oT1 : Tks (o1_ (nX_ M)) (q1_ (nx_ N)) := Tks_a (XF_XA o1_XF) (QF_QA q1_QF) S1.1.1.1
    have o70 : o1_ (nX_ M) 70 = M 70 := by rw [o1_r (by decide)]; exact x70
    have o71 : o1_ (nX_ M) 71 = nX_ M 71 := o1_r (by decide)
    have xs0 : XSb M (o1_ (nX_ M)) := XSb_tr (XA_XSb (XF_XA nX_XF)) (XA_XSb (XF_XA o1_XF))
    have qs0 : QSb N (q1_ (nx_ N)) := QSb_tr (QA_QSb (QF_QA nx_QF)) (QA_QSb (QF_QA q1_QF))
    have stop1 : ∀ {Mx' M2 : mm_}, SQ Mx' (q1_ (nx_ N)) M2 → SQb Mx' N M2 := fun hs => ⟨hs.1, hs.2.1, hs.2.2.1, hs.2.2.2.1, QSb_tr qs0 (QA_QSb hs.2.2.2.2)⟩
    refine b_169_135 (Tr_mono _) hV hW _ _ _ _ _ _ ?_
    refine y_105 oE (by rw [o1_r (by decide)]; exact hkd) (fun _ => by rw [gS_e h12]; exact fun e => by cases e) (fun _ _ => ?_) (fun _ e => by omega)
    rw [nX_o1]
    -- Q at the name
    have toQ : ∀ (G : mm_ → Prop) (Qtq : qt_), (∀ V' : vv_, Cl_ wd0 (Tr_ wd0 pg0 (dq + 14)) V' (rv_ G) Qtq m_310 → Wk_ V' → Tr_ wd0 pg0 (dq + 14) 233 [.inr (.inr 6)] (q1_ (nx_ N)) (ri_ fun v2 M2 =>
     Tr_ wd0 pg0 (dq + 14) 227 [.inr (.inr 6)] M2 (ri_ fun v3 M3 =>
      (if v3 = 0 then
       (if j = 3 then
        (0 ≤ v2 ∧ v2 < 1202) ∧
         Tr_ wd0 pg0 (dq + 14) 231 [.inr (.inr 6), .inl 2, .inl (M3 150 v2)] M3 (rv_ fun M4 =>
         V' 61 [rr 6, ii i, ii s, ii p, ii j, ii (fr + 1), ii 1, ii v2] [] M4) Qtq
       else
        V' 61 [rr 6, ii i, ii s, ii p, ii j, ii (fr + 1), ii 1, ii v2] [] M3)
      else
       V' 61 [rr 6, ii i, ii s, ii p, ii j, ii (fr + 1), ii 1, ii v2] [] M3)) Qtq) Qtq) → q10 dq i s p fr j N G Qtq := fun G Qtq hq V' hV' hW' => by
      refine b_310_18 (Tr_mono _) hV' hW' _ _ _ _ _ _ _ ?_
      rw [if_neg (by decide)]
      refine q_227g (ER_goq oE1) ?_
      rw [if_pos rfl]
      exact hq V' hV' hW'
    have m3 : o1_ (nX_ M) 1 3 = a + 1 := oE1.2.1
    refine y_103 oE1 (fun hk1 => ?_) (fun hk1 => ?_)
    rotate_left
    · rw [if_pos rfl]
      refine x_109 (ER_iX oE1) ?_
      rw [if_neg (by decide), m3]
      rcases h01 with hb | hb
      · have hsp := SQ_bf oE1 hb (k := 1) (by decide) QA_rf
        refine hQ hb _ (XSb_tr xs0 (XA_XSb (XF_XA fl_XF))) (fun G Qtq hg => toQ G Qtq fun V' hV' hW' => ?_)
        exact j_233w oT1 oE1 hb hk1 (q_227s hsp.1 (by rw [if_neg (by decide)]; exact q61_s hV' hW' hsp.1 (hg _ (stop1 hsp))))
      · exfalso
        have h9 := hS hb
        by_cases c3 : j = 3
        · rw [c3, IV_3 ha.1 ha.2] at h9; exact h9 rfl
        · rw [IV_e ha.1 h12 c3] at h9
          have := (tS_n (bind_n h9)).1
          rw [← o70] at this
          exact hk1 this
    rw [if_neg (by decide)]
    have hk1' : M 70 (a + 1) = 100 := by rw [← o70]; exact hk1
    by_cases c3 : j = 3
    · rw [if_pos c3]
      rcases h01 with hb | hb
      · refine x_110 (by rw [m3]; omega) (by rw [m3]; omega) (fun e => absurd e (by decide)) (fun _ => ?_)
        rw [m3]
        have hsp := SQ_bf oE1 hb (k := 2) (by decide) QA_rf
        refine hQ hb _ (XSb_tr xs0 (XA_XSb (XF_XA fl_XF))) (fun G Qtq hg => toQ G Qtq fun V' hV' hW' => ?_)
        by_cases c12 : a + 1 = 1200
        · exact j_233r oT1 oE1 hb hk1 c12 (q_227s hsp.1 (by rw [if_neg (by decide)]; exact q61_s hV' hW' hsp.1 (hg _ (stop1 hsp))))
        · have a1 := ER_a oE1
          have oE2 := (ER_go oE1 (by omega) (by rw [hk1]; decide)).1
          refine j_233t oT1 oE1 hk1 (by omega) (q_227g (ER_goq oE2) ?_)
          rw [if_pos rfl, if_pos c3]
          refine ⟨by omega, q_231o (oE2.2.2.2.2.2.2.2.2.2.1 hb) ?_⟩
          have e150 : nx_ (q1_ (nx_ N)) 150 (a + 1) = o1_ (nX_ M) 71 (a + 1) := by
            rw [nx_ne (by decide)]; exact ((oT1 (a + 1) oE1.1).2.1).symm
          rw [e150]
          have hsp2 := SQ_bf oE1 hb (k := 2) (by decide) QA_rf (M := q1_ (nx_ N))
          have sp2 : sp_ (bf_ (nx_ (q1_ (nx_ N))) 2 (o1_ (nX_ M) 71 (a + 1))) := bf_sp (by rw [nx_6 (by decide)]; exact oE1.2.2.2.2.2.2.2.1.trans hb) (by decide)
          refine q61_s hV' hW' sp2 (hg _ ⟨sp2, ?_, ?_, ?_, ?_⟩)
          · unfold in9_; rw [bf_6 (by decide) (by decide)]; rw [oE2.2.2.1]; omega
          · unfold bf_ flX_; rw [up_off (by decide), up_at, up_off (by decide), up_at]
          · refine ⟨?_, fl_b7 (by assumption)⟩; unfold bf_ flX_; rw [up_at, up_at]
          · exact QSb_tr qs0 (QSb_tr (QA_QSb (QF_QA nx_QF)) (QA_QSb (QF_QA bf_QF)))
      · exfalso
        have h9 := hS hb
        rw [c3, IV_3 ha.1 ha.2] at h9; exact h9 rfl
    rw [if_neg c3]
    rw [IV_e ha.1 h12 c3] at hS hK
    refine x_110 (by rw [m3]; omega) (by rw [m3]; omega) (fun _ => ?_) (fun e => absurd rfl e)
    refine y_105 oE1 (by rw [hk1]; decide) (fun hb => by have := tS_n (bind_n (hS hb)); rw [gS_e this.2]; exact fun e => by cases e) (fun h13 _ => ?_) (fun hb h13 => ?_)
    rotate_left
    · have hsp := SQ_bf oE1 hb (k := 2) (by decide) QA_rf
      refine hQ hb _ (XSb_tr xs0 (XA_XSb (XF_XA fl_XF))) (fun G Qtq hg => toQ G Qtq fun V' hV' hW' => ?_)
      exact j_233r oT1 oE1 hb hk1 h13 (q_227s hsp.1 (by rw [if_neg (by decide)]; exact q61_s hV' hW' hsp.1 (hg _ (stop1 hsp))))
    rw [tS_e hk1' h13, Option.bind_some] at hS hK
    rw [nX_o1, m3]
    have hE2 := (ER_go hE1 h13 (by rw [x70, hk1']; decide)).1
    have S2 := SL_go S1 hE2
    rw [show ee - 1 - 1 = ee - 2 by omega] at S2
    -- the state behind the name
    have main : ∀ M2 N2 : mm_, SL b F M2 N2 (a + 1 + 1) mask (ee - 2) 0 → GV b (M 1 18) s M N M2 N2 k i j (j + 1) → (∀ (G : mm_ → Prop) (Qtq : qt_), (∀ V' : vv_, Cl_ wd0 (Tr_ wd0 pg0 (dq + 14)) V' (rv_ G) Qtq m_310 → Wk_ V' → Tr_ wd0 pg0 (dq + 14) 242 [.inr (.inr 6), .inl 44] (q1_ N2) (ri_ fun v2 M4 => V' 18 [rr 6, ii i, ii s, ii p, ii (w32 (j + 1)), ii (fr + 1), ii v2, none] [] M4) Qtq) → q10 dq i s p fr j N G Qtq) →
        V 201 [rr 1, ii t, ii (if b = 0 then -1 else s), ii (if b = 0 then -1 else k), ii j, ii fr, ii (a + 1)] [] (o1_ M2) := fun M2 N2 S3 G3 q3 => by
      have hE3 := TS_E S3.1
      have oE3 := ER_o1 hE3
      have y70 : M2 70 = M 70 := G3.1.1 70 (by decide)
      have oT3 : Tks (o1_ M2) (q1_ N2) := Tks_a (XF_XA o1_XF) (QF_QA q1_QF) S3.1.1.1
      have xs3 : XSb M (o1_ M2) := XSb_tr ⟨Fr_sub G3.1.1 (by decide), fun x hx => G3.1.2.1 x (nm_i hx (by decide)) (nm_i hx (by decide)) (nm_i hx (by decide)) (nm_i hx (by decide)), fun x _ _ => by rw [G3.1.1 5 (by decide)]⟩ (XA_XSb (XF_XA o1_XF))
      have qs3 : QSb N (q1_ N2) := QSb_tr ⟨Fr_sub G3.2.1.1 (by decide), fun x hx => G3.2.1.2.1 x (nm_i hx (by decide)) (nm_i hx (by decide)) (nm_i hx (by decide))⟩ (QA_QSb (QF_QA q1_QF))
      have w1 : w32 (j + 1) = j + 1 := w32_id (by omega) (by omega)
      rw [w1] at q3
      refine b_169_201 (Tr_mono _) hV hW _ _ _ _ _ _ _ ?_
      refine y_117 oE3 (by decide) (fun c => ?_) (fun c => ?_)
      · rw [if_neg (by decide), w1]
        have c' : M2 70 (a + 1 + 1) = 244 := by have := c; rw [o1_r (by decide)] at this; exact this
        have c'' : M 70 (a + 1 + 1) = 244 := by rw [← y70]; exact c'
        rw [if_pos c''] at hS hK
        have a3 := ER_a hE3
        by_cases c12 : a + 1 + 1 < 1200
        · have q4 : ∀ (G : mm_ → Prop) (Qtq : qt_), q10 dq i s p fr (j + 1) N2 G Qtq → q10 dq i s p fr j N G Qtq := fun G Qtq hq => q3 G Qtq fun V' hV' hW' => j_242t oT3 oE3 (by decide) c c12 (by
            have := hq V' hV' hW'
            rw [← nx_q1] at this
            exact this)
          refine l_169 hV hW n (a + 1 + 1) (j + 1) (ee - 2) M2 N2 (by omega) S3 c12 (.inr c') (by omega) (by omega) hfr (by omega) (fun l l0 l1 => ?_) (fun hb => ?_) ?_ (by rw [y70]; exact hS) (fun M' N' a' j' SS' ha' hj' G' hsy h44 hq => ?_) (fun hb Mx' hx hq => ?_)
          · by_cases cl : l < j
            · have := hnm l l0 cl
              exact ⟨gd_c y70 this.1, by rw [y70]; exact this.2⟩
            · rw [show fr + 1 + 2 * l = a + 1 by omega]
              have g := hE1.1
              exact ⟨gd_c (y70.trans x70.symm) g, by rw [y70]; exact hk1'⟩
          · have := hks hb
            rw [G3.1.1 5 (by decide)]; exact this
          · rw [G3.2.1.2.1 63 (by decide) (by decide) (by decide)]; exact hi
          · rw [y70] at hsy
            rw [show ee - 2 + (a + 1 + 1) - a' = ee + a - a' by omega] at SS'
            refine hK M' N' a' j' SS' (by omega) (by omega) (GV_tr (by omega) G3 (by rw [G3.1.2.1 18 (by decide) (by decide) (by decide) (by decide)] at G'; exact G')) hsy h44 (fun G Qtq hg => q4 G Qtq (hq G Qtq hg))
          · exact hQ hb Mx' (XSb_tr (XSb_tr ⟨Fr_sub G3.1.1 (by decide), fun x hx => G3.1.2.1 x (nm_i hx (by decide)) (nm_i hx (by decide)) (nm_i hx (by decide)) (nm_i hx (by decide)), fun x _ _ => by rw [G3.1.1 5 (by decide)]⟩ XSb_rf) hx) (fun G Qtq hg => q4 G Qtq (hq G Qtq fun M' p => hg _ ⟨p.1, p.2.1, p.2.2.1, p.2.2.2.1, QSb_tr ⟨Fr_sub G3.2.1.1 (by decide), fun x hx => G3.2.1.2.1 x (nm_i hx (by decide)) (nm_i hx (by decide)) (nm_i hx (by decide))⟩ p.2.2.2.2⟩))
        · rcases h01 with hb | hb
          · refine b_169_135 (Tr_mono _) hV hW _ _ _ _ _ _ ?_
            refine y_105 oE3 (by rw [c]; decide) (fun hb1 => by omega) (fun h14 _ => by omega) (fun _ h14 => ?_)
            have hsp := SQ_bf oE3 hb (k := 2) (by decide) QA_rf
            refine hQ hb _ (XSb_tr xs3 (XA_XSb (XF_XA fl_XF))) (fun G Qtq hg => q3 G Qtq fun V' hV' hW' => j_242r oT3 oE3 hb (by decide) c h14 ?_)
            exact q18_s hV' hW' hsp.1 (hg _ ⟨hsp.1, hsp.2.1, hsp.2.2.1, hsp.2.2.2.1, QSb_tr qs3 (QA_QSb hsp.2.2.2.2)⟩)
          · exfalso
            have := IV_g (by omega) (by omega) (hS hb)
            omega
      · have c' : M2 70 (a + 1 + 1) ≠ 244 := by have := c; rw [o1_r (by decide)] at this; exact this
        rw [y70] at c'
        rw [if_neg c'] at hK
        rw [if_pos rfl]
        rw [show ee - 2 = ee + a - (a + 1 + 1) by omega] at S3
        refine hK M2 N2 (a + 1 + 1) j S3 (by omega) (by omega) G3 rfl (by rw [y70]; exact c') (fun G Qtq hg => q3 G Qtq fun V' hV' hW' => j_242f oT3 oE3 (by decide) c ?_)
        refine b_310_18 (Tr_mono _) hV' hW' _ _ _ _ _ _ _ ?_
        rw [if_pos rfl]
        exact hg V' hV' hW'
    intro _
    have m8 : o1_ (nX_ (nX_ M)) 1 8 = b := by rw [o1_1 (by decide)]; exact hE2.2.2.2.2.2.2.1
    have oE2 := ER_o1 hE2
    have q61 : ∀ (G : mm_ → Prop) (Qtq : qt_), (∀ V' : vv_, Cl_ wd0 (Tr_ wd0 pg0 (dq + 14)) V' (rv_ G) Qtq m_310 → Wk_ V' → V' 61 [rr 6, ii i, ii s, ii p, ii j, ii (fr + 1), ii 1, ii (a + 1)] [] (q1_ (nx_ (nx_ N)))) → q10 dq i s p fr j N G Qtq := fun G Qtq hq => toQ G Qtq fun V' hV' hW' => j_233t oT1 oE1 hk1 h13 (by
      rw [nx_q1]
      refine q_227g (ER_goq oE2) ?_
      rw [if_pos rfl, if_neg c3]
      exact hq V' hV' hW')
    have n16 : q1_ (nx_ (nx_ N)) 6 16 = b := oE2.2.2.2.2.2.2.2.1
    rcases h01 with hb | hb
    · rw [if_pos (by omega)]
      refine main (nX_ (nX_ M)) (nx_ (nx_ N)) S2 ?_ (fun G Qtq hq => q61 G Qtq fun V' hV' hW' => ?_)
      · have g0 : GV b (M 1 18) s M N (nX_ (nX_ M)) (nx_ (nx_ N)) k i j j := GV_tr (Int.le_refl _) GV_go GV_go
        exact ⟨g0.1, g0.2.1, fun hb1 => by omega⟩
      · refine b_310_61 (Tr_mono _) hV' hW' _ _ _ _ _ _ _ _ (q_227g (ER_goq oE2) ?_)
        rw [if_pos rfl]
        intro _
        rw [if_pos (by omega)]
        exact hq V' hV' hW'
    · rw [if_neg (by omega)]
      obtain ⟨⟨k1, k2⟩, s1⟩ := hks hb
      have hg2 : nm9_ (nX_ (nX_ M)) (a + 1) := ⟨gd_c (nX_ne (by decide)) hE1.1, by rw [nX_ne (by decide), x70]; exact hk1'⟩
      have f2 : nX_ (nX_ M) 1 7 = M 1 7 := by rw [nX_1 (by decide), nX_1 (by decide)]
      have S2' := S2
      rw [hb] at S2'
      have tk := SL_tk (s := s) (j := j) (fr := fr) (t := a + 1) (k := k) (i := i) S2' hg2.1 (by omega) (by rw [f2]; omega)
      have hV2 := S2.1.1.2.1
      have oV2 : VT (o1_ (nX_ (nX_ M))) (q1_ (nx_ (nx_ N))) := VT_a (XF_XA o1_XF) (QF_QA q1_QF) hV2
      have oT2 : Tks (o1_ (nX_ (nX_ M))) (q1_ (nx_ (nx_ N))) := Tks_a (XF_XA o1_XF) (QF_QA q1_QF) S2.1.1.1
      have hG2 := S2.1.2.1.1
      have oG2 : SGT (o1_ (nX_ (nX_ M))) (q1_ (nx_ (nx_ N))) := (GT_a (XF_XA o1_XF) (QF_QA q1_QF) S2.1.2.1).1
      have e50 : nX_ (nX_ M) 5 = M 5 := by rw [nX_ne (by decide), nX_ne (by decide)]
      have m50 := hG2.1.1
      rw [e50] at m50
      have on9 : ∀ l, 0 ≤ l → l < j → nm9_ (o1_ (nX_ (nX_ M))) (fr + 1 + 2 * l) := fun l l0 l1 => by
        have := hnm l l0 l1
        have e7 : o1_ (nX_ (nX_ M)) 70 = M 70 := by rw [o1_r (by decide), nX_ne (by decide)]; exact x70
        exact ⟨gd_c e7 this.1, by rw [e7]; exact this.2⟩
      have o18 : nX_ (nX_ M) 1 18 = M 1 18 := by rw [nX_1 (by decide), nX_1 (by decide)]
      refine x_173 (d := d + 1) (v := vrr (q1_ (nx_ (nx_ N))) (q1_ (nx_ (nx_ N)) 151 (a + 1))) oT2 oV2 ⟨gd_c (o1_r (by decide)) hg2.1, by rw [o1_r (by decide)]; exact hg2.2⟩ (by rw [if_neg (by omega)]; omega) (by omega) (by rw [if_neg (by omega)]; omega) (by omega) on9 (by rw [o1_1 (by decide), f2]; have := ER_fl hE; omega) rfl ?_
      have eX : tkX (itx (a + 1) (dpc (q1_ (nx_ (nx_ N)) 151) (q1_ (nx_ (nx_ N)) 151 (a + 1)) j.toNat (fr + 1)) (o1_ (nX_ (nX_ M)))) (o1_ (nX_ (nX_ M)) 1 18) (vrr (q1_ (nx_ (nx_ N))) (q1_ (nx_ (nx_ N)) 151 (a + 1))) (if b = 0 then -1 else s) j (a + 1) (if b = 0 then -1 else k) = o1_ (tX9_ (nX_ (nX_ M)) (nx_ (nx_ N)) s j fr (a + 1) k) := by
        rw [if_neg (by omega), if_neg (by omega), ← tX9_o1]; rfl
      rw [eX]
      have gtk := GV_tk (k := k) (i := i) hV2 hj.1 tk.2
      rw [o18] at gtk
      refine main _ _ (by rw [hb]; exact tk.1) ?_ (fun G Qtq hq => q61 G Qtq fun V' hV' hW' => ?_)
      · rw [hb]; exact GV_tr (Int.le_refl _) (GV_tr (Int.le_refl _) GV_go GV_go) gtk
      · refine b_310_61 (Tr_mono _) hV' hW' _ _ _ _ _ _ _ _ (q_227g (ER_goq oE2) ?_)
        rw [if_pos rfl]
        intro _
        rw [if_neg (by omega)]
        have e150 : q1_ (nx_ (nx_ N)) 150 (a + 1) = nX_ (nX_ M) 71 (a + 1) := by
          have := (oT2 (a + 1) (gd_c (o1_r (by decide)) hg2.1)).2.1
          rw [o1_r (by decide)] at this; exact this.symm
        refine q_311 (d := dq + 12) (p := nX_ (nX_ M) 71 (a + 1)) (v := vrr (q1_ (nx_ (nx_ N))) (q1_ (nx_ (nx_ N)) 151 (a + 1))) oV2 oG2 (by omega) (by omega) (by rw [o1_r (by decide), e50]; omega) (by omega) (by omega) (by omega) e150 rfl ?_
        have eQ : tkQ (o1_ (nX_ (nX_ M))) (itq (nX_ (nX_ M) 71 (a + 1)) (dpc (q1_ (nx_ (nx_ N)) 151) (q1_ (nx_ (nx_ N)) 151 (a + 1)) j.toNat (fr + 1)) (q1_ (nx_ (nx_ N)))) (o1_ (nX_ (nX_ M)) 1 18) (vrr (q1_ (nx_ (nx_ N))) (q1_ (nx_ (nx_ N)) 151 (a + 1))) s j (nX_ (nX_ M) 71 (a + 1)) i = q1_ (tQ9_ (nX_ (nX_ M)) (nx_ (nx_ N)) s j fr (a + 1) i) := by
          rw [← tQ9_q1]; rfl
        rw [eQ]
        exact hq V' hV' hW'
end TN
end T199_tv
section T200_in
/-! inputs: an in whole, its end behind brackets -/
def inS (κ : Int → Int) (a : Int) : Option Int := if κ a = 242 then gS a else (tS κ 100 a).bind fun a1 => if κ a1 = 240 then IV κ (a1, 0) else some a1
def X38 (b s : Int) (M : mm_) (k n : Int) : mm_ := if b = 0 ∨ s = -1 then M else up_ M 138 k n
/-- the note for the number of values -/
def nvK (M : mm_) (b s n : Int) : Int := if b = 0 ∨ s = -1 then 0 else if s < 100 then (if n = M 112 s then 0 else 5) else (if n = 0 then 0 else 5)
section IN
variable {d dq : Nat} {b F : Int} {M N M0 N0 M1 N1 M2 N2 Mx Mq : mm_} {t p k s fr i n a mask ee w kk who x5 x6 : Int} {Kv G : mm_ → Prop} {Qr : List pv_ → mm_ → Prop} {Qt Qtq : qt_} {V : vv_}
theorem o1_c [Inhabited gh_] (h : M 1 6 = 0) : up_ (nX_ (o1_ M)) 1 6 (w32 (nX_ (o1_ M) 1 6 - 1)) = nX_ M := by
  have e : nX_ (o1_ M) 1 6 = 1 := by rw [nX_1 (by decide)]; unfold o1_; rw [up_at]
  rw [e, show w32 (1 - 1) = 0 by decide, nX_o1]
  unfold o1_
  rw [up_up]
  have e2 : nX_ M 1 6 = 0 := by rw [nX_1 (by decide)]; exact h
  rw [← e2]; exact up_id
theorem q1_c [Inhabited gh_] (h : N 6 15 = 0) : up_ (nx_ (q1_ N)) 6 15 (1 - 1) = nx_ N := by
  rw [show (1 : Int) - 1 = 0 by decide, nx_q1]
  unfold q1_
  rw [up_up]
  have e2 : nx_ N 6 15 = 0 := by rw [nx_6 (by decide)]; exact h
  rw [← e2]; exact up_id
theorem X38_r [Inhabited gh_] {r : Nat} (h : r ≠ 138) : X38 b s M k n r = M r := by
  unfold X38; split
  · rfl
  · exact up_ne h
theorem SL_38 [Inhabited gh_] (h : SL b F Mx Mq a mask ee w) {c v : Int} : SL b F (X38 b s Mx k n) (up_ Mq 201 c v) a mask ee w := by
  obtain ⟨h1, ⟨s1, s2, s3⟩, hm, h4⟩ := h
  have e : ∀ r : Nat, r ≠ 138 → X38 b s Mx k n r = Mx r := fun r h => X38_r h
  have q : ∀ r : Nat, r ≠ 201 → up_ Mq 201 c v r = Mq r := fun r h => up_ne h
  have xb : XSb Mx (X38 b s Mx k n) := ⟨fun r hr => e r (fun h => hr (by rw [h]; decide)), fun i hi => by rw [e 1 (by decide)], fun i _ _ => by rw [e 5 (by decide)]⟩
  have qb : QSb Mq (up_ Mq 201 c v) := ⟨fun r hr => q r (fun h => hr (by rw [h]; decide)), fun i hi => by rw [q 6 (by decide)]⟩
  refine ⟨TS_c h1 xb qb (fun i h _ => by rw [e 1 (by decide)]) (by rw [e 5 (by decide)]) (e _ (by decide)) (e _ (by decide)) (e _ (by decide)) (e _ (by decide)) (fun _ _ _ => by rw [q 6 (by decide)]) (q _ (by decide)) (q _ (by decide)) (q _ (by decide)) (q _ (by decide)) (q _ (by decide)), ⟨by rw [e 5 (by decide)]; exact s1, by rw [q 6 (by decide)]; exact s2, by rw [q 6 (by decide)]; exact s3⟩, hm, fun hb => ?_⟩
  obtain ⟨⟨xs, hs⟩, hmb, r⟩ := h4 hb
  refine ⟨⟨xs, SRW_c hs (by rw [e 5 (by decide)]) (e _ (by decide)) (e _ (by decide)) (e _ (by decide)) (e _ (by decide)) (e _ (by decide)) (by rw [q 6 (by decide)]) (by rw [q 6 (by decide)]) (q _ (by decide)) (q _ (by decide)) (q _ (by decide)) (q _ (by decide)) (q _ (by decide)) (q _ (by decide))⟩, ?_, ?_⟩
  · rw [e 1 (by decide), e 123 (by decide)]; exact hmb
  · rw [e 1 (by decide), q 6 (by decide), q 193 (by decide), q 192 (by decide), q 194 (by decide)]; exact r
theorem nvK_r [Inhabited gh_] : nvK M b s n = 0 ∨ (3 ≤ nvK M b s n ∧ nvK M b s n ≤ 6) := by
  unfold nvK; repeat' split
  all_goals omega
/-- the growth of an in with brackets -/
theorem SLG_v [Inhabited gh_] (h01 : b = 0 ∨ b = 1) (g1 : SLG b w M0 N0 M1 N1) (e54 : b = 1 → M1 5 4 = M0 5 4 + 1) (e63 : N1 6 63 = N0 6 63 + 1) (g2 : GV b (N0 6 61) s M1 N1 M2 N2 (M0 5 4) (N0 6 63) 0 n) (hn : 0 ≤ n ∧ n ≤ 3)
    (hs : b = 1 → N1 200 (N0 6 63) = s) (hT : b = 1 → kk = 0 → s ≠ -1 → (0 ≤ s ∧ s < 20 ∧ n ≤ M1 112 s ∧ N1 156 s = M1 112 s) ∧ (∀ v, 0 ≤ v → v < M1 112 s → N1 157 (3 * s + v) = M1 113 (3 * s + v) + 1) ∧ ∀ u, 0 ≤ u → u < N1 171 (N0 6 61) → M1 130 (8 * N0 6 61 + u) + 1 = N1 182 (8 * N0 6 61 + u)) (h13 : b = 1 → Qn_ (up_ (nx_ N2) 201 (N0 6 63) n) b kk p 6 13 = 0 → kk = 0 ∧ up_ (nx_ N2) 201 (N0 6 63) n 6 13 = 0) :
    SLG b w M0 N0 (Xn_ (X38 b s (nX_ M2) (M0 5 4) n) b kk t) (Qn_ (up_ (nx_ N2) 201 (N0 6 63) n) b kk p) := by
  obtain ⟨⟨a1, a2, a3, a4, a5, a6⟩, ⟨c1, c2, c3, c4, c5⟩, z0, z1⟩ := g1
  obtain ⟨⟨d1, d2, d3, d4⟩, ⟨f1, f2, f3⟩, y1⟩ := g2
  have xr : ∀ r : Nat, r ≠ 1 → r ≠ 137 → r ≠ 138 → Xn_ (X38 b s (nX_ M2) (M0 5 4) n) b kk t r = M1 r := fun r h1 h2 h3 => by
    rw [Xn_r h1, X38_r h3, nX_ne h1]; exact d1 r (by simp only [List.mem_cons, List.not_mem_nil, or_false, not_or]; exact ⟨h1, h2⟩)
  have x1 : ∀ x : Int, x ≠ 3 → x ≠ 4 → x ≠ 5 → x ≠ 7 → Xn_ (X38 b s (nX_ M2) (M0 5 4) n) b kk t 1 x = M1 1 x := fun x h3 h4 h5 h7 => by
    rw [Xn_1 h4 h5 h7, X38_r (by decide), nX_1 h3]; exact d2 x h3 h4 h5 h7
  have x137 : Xn_ (X38 b s (nX_ M2) (M0 5 4) n) b kk t 137 = M2 137 := by rw [Xn_r (by decide), X38_r (by decide), nX_ne (by decide)]
  have qr : ∀ r : Nat, r ≠ 6 → r ≠ 201 → r ≠ 202 → Qn_ (up_ (nx_ N2) 201 (N0 6 63) n) b kk p r = N1 r := fun r h1 h2 h3 => by
    rw [Qn_r h1, up_ne h2, nx_ne h1]; exact f1 r (by simp only [List.mem_cons, List.not_mem_nil, or_false, not_or]; exact ⟨h1, h3⟩)
  have q6 : ∀ x : Int, x ≠ 12 → x ≠ 13 → x ≠ 14 → Qn_ (up_ (nx_ N2) 201 (N0 6 63) n) b kk p 6 x = N1 6 x := fun x h1 h2 h3 => by
    rw [Qn_6 h2 h3, up_ne (by decide), nx_6 h1]; exact f2 x h1 h2 h3
  have q202 : Qn_ (up_ (nx_ N2) 201 (N0 6 63) n) b kk p 202 = N2 202 := by rw [Qn_r (by decide), up_ne (by decide), nx_ne (by decide)]
  have q201 : ∀ x : Int, x ≠ N0 6 63 → Qn_ (up_ (nx_ N2) 201 (N0 6 63) n) b kk p 201 x = N1 201 x := fun x h => by
    rw [Qn_r (by decide), up_of2 h, nx_ne (by decide), f1 201 (by decide)]
  have x138 : ∀ x : Int, x ≠ M0 5 4 → Xn_ (X38 b s (nX_ M2) (M0 5 4) n) b kk t 138 x = M1 138 x := fun x h => by
    rw [Xn_r (by decide)]
    unfold X38; split
    · rw [nX_ne (by decide), d1 138 (by decide)]
    · rw [up_of2 h, nX_ne (by decide), d1 138 (by decide)]
  refine ⟨⟨fun r hr => ?_, fun x hx => ?_, fun x hx => ?_, ?_, fun r x hr hx => ?_, fun x hx => ?_⟩, ⟨fun r hr => ?_, fun x hx => ?_, ?_, fun x hx => ?_, fun x hx => ?_⟩, fun hb => ?_, fun hb => ?_⟩
  · rw [xr r (fun e => hr (by rw [e]; decide)) (fun e => hr (by rw [e]; decide)) (fun e => hr (by rw [e]; decide))]; exact a1 r hr
  · rw [x1 x (nm_i hx (by decide)) (nm_i hx (by decide)) (nm_i hx (by decide)) (nm_i hx (by decide))]; exact a2 x hx
  · rw [xr 5 (by decide) (by decide) (by decide)]; exact a3 x hx
  · rw [xr 5 (by decide) (by decide) (by decide)]; exact a4
  · by_cases c : r = 138
    · rw [c, x138 x (by omega)]; rw [c] at hr; exact a5 138 x hr hx
    · rw [xr r (fun e => by rw [e] at hr; revert hr; decide) (fun e => by rw [e] at hr; revert hr; decide) c]; exact a5 r x hr hx
  · rw [x137, d4 x (by omega)]; exact a6 x hx
  · rw [qr r (fun e => hr (by rw [e]; decide)) (fun e => hr (by rw [e]; decide)) (fun e => hr (by rw [e]; decide))]; exact c1 r hr
  · rw [q6 x (nm_i hx (by decide)) (nm_i hx (by decide)) (nm_i hx (by decide))]; exact c2 x hx
  · rw [q6 63 (by decide) (by decide) (by decide)]; exact c3
  · rw [qr 200 (by decide) (by decide) (by decide), q201 x (by omega)]; exact c4 x hx
  · rw [q202, f3 x (by omega)]; exact c5 x hx
  · rw [xr 5 (by decide) (by decide) (by decide), x1 22 (by decide) (by decide) (by decide) (by decide)]; exact z0 hb
  · obtain ⟨v1, v2, v3⟩ := z1 hb
    rw [xr 5 (by decide) (by decide) (by decide), q6 63 (by decide) (by decide) (by decide)]
    refine ⟨v1, fun hg => ?_, fun hz => ?_⟩
    · have := v2 hg
      rw [x1 22 (by decide) (by decide) (by decide) (by decide), q6 63 (by decide) (by decide) (by decide), qr 200 (by decide) (by decide) (by decide)]
      exact this
    · have h9 := h13 hb hz
      have n213 : N2 6 13 = 0 := by have := h9.2; rw [up_ne (by decide), nx_6 (by decide)] at this; exact this
      obtain ⟨y2, y3⟩ := y1 hb n213
      obtain ⟨v4, v5⟩ := v3 y2
      refine ⟨v4, fun j j0 j1 => ?_⟩
      rw [e63] at j1
      have r0 := v5 j j0 (by omega)
      rw [show j = 0 by omega, show M0 5 4 + 0 = M0 5 4 by omega, show N0 6 63 + 0 = N0 6 63 by omega] at r0 ⊢
      have s0 := hs hb
      have sne : s ≠ -1 := by rw [← s0]; have := r0.2.1; omega
      have u : UQI (Xn_ (X38 b s (nX_ M2) (M0 5 4) n) b kk t) (M0 5 4) := by
        unfold UQI; rw [xr 134 (by decide) (by decide) (by decide), xr 133 (by decide) (by decide) (by decide), xr 136 (by decide) (by decide) (by decide), xr 135 (by decide) (by decide) (by decide)]; exact r0.1
      unfold RWI
      rw [qr 200 (by decide) (by decide) (by decide), qr 171 (by decide) (by decide) (by decide), qr 184 (by decide) (by decide) (by decide), qr 183 (by decide) (by decide) (by decide), qr 156 (by decide) (by decide) (by decide), qr 157 (by decide) (by decide) (by decide), qr 182 (by decide) (by decide) (by decide), q202, x137]
      have e1 : Qn_ (up_ (nx_ N2) 201 (N0 6 63) n) b kk p 201 (N0 6 63) = n := by rw [Qn_r (by decide), up_at]
      have e2 : Xn_ (X38 b s (nX_ M2) (M0 5 4) n) b kk t 138 (M0 5 4) = n := by
        rw [Xn_r (by decide)]; unfold X38; rw [if_neg (by omega), up_at]
      rw [e1, e2]
      refine ⟨u, r0.2.1, hn, rfl, fun v v0 v1 => ?_⟩
      obtain ⟨w1, u, w2, w3, w4, w5⟩ := y3 v v0 v1
      obtain ⟨t1, t2, t3⟩ := hT hb h9.1 sne
      have e5 := w5 t1.1 (by omega) (by omega)
      refine ⟨w1, u, w2, w3, w4, ?_⟩
      rw [s0, t2 v v0 (by omega), e5]
      exact ⟨t1.2.1, by omega, t3 u w2.1 w2.2⟩
/-- X's end of an in with brackets -/
theorem x_201 [Inhabited gh_] (hE : ER b F M N a 0) (hV : VT M N) (h138 : b = 1 → 0 ≤ k ∧ k < 600) (hs : b = 1 → s = -1 ∨ (0 ≤ s ∧ s < 20) ∨ (100 ≤ s ∧ s < 103)) (ht : 0 ≤ t ∧ t < 1202) (hn : 0 ≤ n ∧ n ≤ 2) (hf : 0 ≤ M 1 7 ∧ M 1 7 < 2147483647)
    (hK : Kv (Xn_ (X38 b s (nX_ M) k (n + 1)) b (nvK M b s (n + 1)) t)) : R201 (d + 1) (rv_ Kv) Qt t (if b = 0 then -1 else s) (if b = 0 then -1 else k) n (nX_ (o1_ M)) := by
  intro _
  have m8 : nX_ (o1_ M) 1 8 = b := by rw [nX_1 (by decide), o1_1 (by decide)]; exact hE.2.2.2.2.2.2.1
  have m2 : nX_ (o1_ M) 1 2 = 5 := by rw [nX_1 (by decide), o1_1 (by decide)]; exact hV.1
  have m112 : nX_ (o1_ M) 112 = M 112 := by rw [nX_ne (by decide), o1_r (by decide)]
  have e16 : M 1 6 = 0 := hE.2.2.2.1
  rw [o1_c e16, w32_id (x := n + 1) (by omega) (by omega), m112]
  have m17 : nX_ M 1 7 = M 1 7 := nX_1 (by decide)
  rcases bl01 hE with hb | hb
  · rw [if_pos (by omega)]
    unfold X38 nvK Xn_ at hK
    rw [if_pos (.inl hb), if_pos (.inl hb)] at hK
    exact rv_i hK
  · have s0 := hs hb
    have k0 := h138 hb
    rw [if_neg (by omega), if_neg (show ¬ b = 0 by omega), if_neg (show ¬ b = 0 by omega)]
    by_cases c : s = -1
    · rw [if_pos c]
      have e0 : nvK M b s (n + 1) = 0 := by unfold nvK; rw [if_pos (.inr c)]
      rw [e0] at hK
      unfold X38 Xn_ at hK
      rw [if_pos (.inr rfl), if_pos (.inr c)] at hK
      exact rv_i hK
    · rw [if_neg c]
      refine ⟨m2, k0, ?_⟩
      have nb : ¬ (b = 0 ∨ s = -1) := by omega
      unfold X38 nvK Xn_ at hK
      rw [if_neg nb, if_neg nb] at hK
      have u7 : up_ (nX_ M) 138 k (n + 1) 1 7 = M 1 7 := by rw [up_ne (by decide)]; exact m17
      by_cases c1 : s < 100
      · rw [if_pos c1] at hK ⊢
        refine ⟨m2, by omega, ?_⟩
        by_cases c2 : n + 1 = M 112 s
        · rw [if_pos c2, if_pos (.inr rfl)] at hK
          rw [if_pos c2]; exact rv_i hK
        · rw [if_neg c2, if_neg (by omega)] at hK
          rw [if_neg c2]
          exact x_116 ht.1 ht.2 (by rw [u7]; exact hf.1) (by rw [u7]; exact hf.2) (rv_i hK)
      · rw [if_neg c1, if_neg (by omega), if_neg (by omega)] at hK
        rw [if_neg c1, if_neg (by omega)]
        exact x_116 ht.1 ht.2 (by rw [u7]; exact hf.1) (by rw [u7]; exact hf.2) (rv_i hK)
/-- Q's end of an in with brackets -/
theorem q_102e [Inhabited gh_] (hE : ER b F M N a 0) (hT : Tks M N) (hG : SGT M N) (hk : M 70 a = 241) (h12 : a < 1200) (hE2 : ER b F (nX_ M) (nx_ N) (a + 1) 0) (hi : 0 ≤ i ∧ i < 1300) (hs : s = -1 ∨ (0 ≤ s ∧ s < M 5 0) ∨ (100 ≤ s ∧ s < 103)) (hn : 1 ≤ n ∧ n ≤ 3)
    (hK : G (Qn_ (up_ (nx_ N) 201 i n) b (nvK M b s n) p)) : q10e dq i s p fr n N G Qtq := fun V' hV' hW' => by
  have oE := ER_o1 hE
  have oT : Tks (o1_ M) (q1_ N) := Tks_a (XF_XA o1_XF) (QF_QA q1_QF) hT
  have e15 : N 6 15 = 0 := hE.2.2.2.2.1
  have m5 := hG.1.1
  have n16 : nx_ N 6 16 = b := hE2.2.2.2.2.2.2.2.1
  refine b_310_102 (Tr_mono _) hV' hW' _ _ _ _ _ _ _ ?_
  refine j_243t oT oE (by decide) (by rw [o1_r (by decide)]; exact hk) h12 (by decide) ?_
  rw [q1_c e15]
  refine q_227g (ER_goq hE2) ?_
  rw [if_pos rfl]
  refine ⟨hi, ?_⟩
  have e156 : nx_ N 156 = N 156 := nx_ne (by decide)
  have u16 : up_ (nx_ N) 201 i n 6 16 = b := by rw [up_ne (by decide)]; exact n16
  have none : nvK M b s n = 0 → rv_ G [] (up_ (nx_ N) 201 i n) := fun e => by
    rw [e] at hK; unfold Qn_ at hK; rw [if_pos (.inr rfl)] at hK; exact rv_i hK
  have five : (b = 1 → nvK M b s n = 5) → Tr_ wd0 pg0 (dq + 14) 236 [.inr (.inr 6), .inl 5, .inl p] (up_ (nx_ N) 201 i n) (rv_ fun M4 => rv_ G [] M4) Qtq := fun e => q_236 (rv_i (by
    rcases bl01 hE with hb | hb
    · unfold Qn_ at hK; rw [if_pos (.inl hb)] at hK
      unfold nt_; rw [if_pos (by omega)]; exact hK
    · rw [e hb, Qn_nt u16 (.inr hb) (by decide)] at hK; exact hK))
  have b0 : b = 0 → nvK M b s n = 0 := fun hb => by unfold nvK; rw [if_pos (.inl hb)]
  by_cases c1 : s < 100
  · rw [if_pos c1]
    by_cases c2 : s < 0
    · rw [if_pos c2, if_pos rfl]
      exact none (by unfold nvK; rw [if_pos (.inr (by omega))])
    · rw [if_neg c2, e156]
      have sg := (hG.2 s (by omega) (by omega)).1
      refine ⟨by omega, ?_⟩
      rw [sg.2.2]
      by_cases c3 : n = M 112 s
      · rw [if_pos c3]
        exact none (by unfold nvK; rw [if_pos c1, if_pos c3]; split <;> rfl)
      · rw [if_neg c3]
        exact five (fun hb => by unfold nvK; rw [if_neg (by omega), if_pos c1, if_neg c3])
  · rw [if_neg c1, if_neg (by omega)]
    exact five (fun hb => by unfold nvK; rw [if_neg (by omega), if_neg c1, if_neg (by omega)])
end IN
end T200_in
section T201_in
/-! inputs: an in whole (X 169 | Q 308) -/
section IO
variable {dq : Nat} {b F : Int} {M N M1 N1 : mm_} {s k a mask ee ee' w : Int} {Kv : mm_ → Prop} {Qt : qt_} {V : vv_}
theorem SL_le [Inhabited gh_] (h : SL b F M N a mask ee w) (he : ee ≤ ee') : SL b F M N a mask ee' w := by
  obtain ⟨h1, ⟨s1, s2, s3⟩, hm, h4⟩ := h
  exact ⟨h1, ⟨by omega, by omega, by omega⟩, hm, h4⟩
theorem SLG_XSb [Inhabited gh_] (h : SLG b w M N M1 N1) : XSb M M1 := ⟨Fr_sub h.1.1 (by decide), fun i hi => h.1.2.1 i (fun e => hi (by revert e; unfold xiI xbI; simp only [List.mem_cons, List.not_mem_nil, or_false]; omega)), fun i _ h4 => h.1.2.2.1 i h4⟩
theorem SLG_QSb [Inhabited gh_] (h : SLG b w M N M1 N1) : QSb N N1 := ⟨Fr_sub h.2.1.1 (by decide), fun i hi => h.2.1.2.1 i (fun e => hi (by revert e; unfold qiI qbI; simp only [List.mem_cons, List.not_mem_nil, or_false]; omega))⟩
theorem GV_XSb [Inhabited gh_] {T s i j j' k : Int} (h : GV b T s M N M1 N1 k i j j') : XSb M M1 := ⟨Fr_sub h.1.1 (by decide), fun x hx => h.1.2.1 x (nm_i hx (by decide)) (nm_i hx (by decide)) (nm_i hx (by decide)) (nm_i hx (by decide)), fun x _ _ => by rw [h.1.1 5 (by decide)]⟩
theorem GV_QSb [Inhabited gh_] {T s i j j' k : Int} (h : GV b T s M N M1 N1 k i j j') : QSb N N1 := ⟨Fr_sub h.2.1.1 (by decide), fun x hx => h.2.1.2.1 x (nm_i hx (by decide)) (nm_i hx (by decide)) (nm_i hx (by decide))⟩
theorem rv_e [Inhabited gh_] {G : mm_ → Prop} : (rv_ fun M2 => rv_ G [] M2) = rv_ G := by
  funext vs m
  exact propext ⟨fun h => ⟨h.1, h.2.2⟩, fun h => ⟨h.1, rfl, h.2⟩⟩
/-- behind the name of an in -/
theorem y_in2 [Inhabited gh_] (hV : Cl_ wd0 (Tr_ wd0 pg0 127) V (rv_ Kv) Qt m_169) (hW : Wk_ V) (h : SL b F M N a mask ee 0) (he : ee ≤ -1) (hk1 : M 70 a = 100) (S1 : SL b F M1 N1 (a + 1) mask (ee + 1) 0) (G1 : SLG b 0 M N M1 N1) (f1 : M1 1 7 ≤ M 1 7 + 1) (e54 : b = 1 → M1 5 4 = M 5 4 + 1) (e63 : N1 6 63 = N 6 63 + 1) (e200 : b = 1 → N1 200 (N 6 63) = s) (hs : s = -1 ∨ (0 ≤ s ∧ s < M 5 0) ∨ (100 ≤ s ∧ s < 103))
    (hS : b = 1 → (if M 70 (a + 1) = 240 then IV (M 70) (a + 1, 0) else some (a + 1)) ≠ none)
    (q8 : ∀ (G : mm_ → Prop) (Qtq : qt_), (∀ V' : vv_, Tr_ wd0 pg0 (dq + 15) 237 [.inr (.inr 6), .inl 40] N1 (ri_ fun v1 M1' => if v1 = 0 then rv_ G [] M1' else Tr_ wd0 pg0 (dq + 15) 310 [.inr (.inr 6), .inl (N 6 63), .inl s, .inl (M 71 a)] M1' (rv_ fun M2 => rv_ G [] M2) Qtq) Qtq) → Tr_ wd0 pg0 (dq + 16) 308 [.inr (.inr 6), .inl k, .inl mask, .inl 1] N (rv_ G) Qtq)
    (hK : ∀ M' N' a', SL b F M' N' a' mask (ee + 1) 0 → a + 1 ≤ a' → SLG b 0 M N M' N' → (if M 70 (a + 1) = 240 then IV (M 70) (a + 1, 0) else some (a + 1)) = some a' → (∀ (G : mm_ → Prop) (Qtq : qt_), G N' → Tr_ wd0 pg0 (dq + 16) 308 [.inr (.inr 6), .inl k, .inl mask, .inl 1] N (rv_ G) Qtq) → Kv M')
    (hQ : b = 0 → ∀ Mx', XSb M Mx' → (∀ (G : mm_ → Prop) (Qtq : qt_), (∀ M', SQb Mx' N M' → G M') → Tr_ wd0 pg0 (dq + 16) 308 [.inr (.inr 6), .inl k, .inl mask, .inl 1] N (rv_ G) Qtq) → Qt 8 Mx') :
    Tr_ wd0 pg0 127 117 [.inr (.inr 1), .inl 40] M1 (ri_ fun v2 M2 => if v2 = 0 then rv_ Kv [] M2 else Tr_ wd0 pg0 127 118 [.inr (.inr 1)] M2 (rv_ fun M3 => V 135 [rr 1, ii a, ii (if b = 0 then -1 else s), ii (if b = 0 then -1 else M 5 4), ii 0, ii (M3 1 3), none] [] M3) Qt) Qt := by
  have hE1 := TS_E S1.1
  have hT1 := S1.1.1.1
  have ha1 := ER_a hE1
  have hE := TS_E h.1
  have ha := ER_a hE
  have h01 := bl01 hE
  have x70 : M1 70 = M 70 := G1.1.1 70 (by decide)
  have x71 : M1 71 = M 71 := G1.1.1 71 (by decide)
  have xs1 := SLG_XSb G1
  have qs1 := SLG_QSb G1
  have b1 := h.2.1
  have fl := h.1.2.2.2.2.2.1
  have fe := ER_fl hE
  have fe1 := ER_fl hE1
  have b2 := S1.2.1
  refine y_117 hE1 (by decide) (fun c => ?_) (fun c => ?_)
  · rw [if_neg (by decide)]
    have c' : M 70 (a + 1) = 240 := by rw [← x70]; exact c
    rw [if_pos c'] at hS hK
    refine y_118 hE1 (fun _ => by decide) (fun _ oE => ?_) (fun _ e => absurd e (by decide))
    have e13 : up_ M1 1 6 (0 + 1) 1 3 = a + 1 := by rw [up_off (by decide)]; exact hE1.2.1
    rw [e13]
    have q9 : ∀ (G : mm_ → Prop) (Qtq : qt_), Tr_ wd0 pg0 (dq + 15) 310 [.inr (.inr 6), .inl (N 6 63), .inl s, .inl (M 71 a)] N1 (rv_ G) Qtq → Tr_ wd0 pg0 (dq + 16) 308 [.inr (.inr 6), .inl k, .inl mask, .inl 1] N (rv_ G) Qtq := fun G Qtq hq => q8 G Qtq fun V' => j_237t hT1 hE1 (by decide) c (by
      rw [if_neg (by decide)]
      rw [rv_e]; exact hq)
    by_cases c12 : a + 1 < 1200
    · have q10' : ∀ (G : mm_ → Prop) (Qtq : qt_), q10 dq (N 6 63) s (M 71 a) (a + 1) 0 N1 G Qtq → Tr_ wd0 pg0 (dq + 16) 308 [.inr (.inr 6), .inl k, .inl mask, .inl 1] N (rv_ G) Qtq := fun G Qtq hq => q9 G Qtq (by
        refine t_310 fun V' hV' hW' => b_310_0 (Tr_mono _) hV' hW' _ _ _ _ ?_
        refine j_239t hT1 hE1 (by decide) c c12 (by decide) ?_
        have e12 : nx_ (up_ N1 6 15 (0 + 1)) 6 12 = a + 1 + 1 := by unfold nx_; rw [up_at, up_off (by decide), hE1.2.2.1]
        rw [e12]
        have := hq V' hV' hW'
        rw [← nx_q1] at this
        exact this)
      refine l_169 (d := 122) (dq := dq) (k := M 5 4) (i := N 6 63) (p := M 71 a) (s := s) (t := a) hV hW 1201 (a + 1) 0 (ee + 1) M1 N1 (by omega) S1 c12 (.inl c) (by omega) (by omega) (by omega) (by omega) (fun l l0 l1 => by omega) (fun hb => ?_) (by omega) (by rw [x70]; exact hS) (fun M2 N2 a2 j' S2 ha2 hj' G2 hsy h44 hq => ?_) (fun hb Mx' hx hq => ?_)
      · rw [G1.1.2.2.1 0 (by decide)]
        have := e54 hb
        exact ⟨by omega, hs⟩
      · rw [x70] at hsy
        have hE2 := TS_E S2.1
        have oE2 := ER_o1 hE2
        have oT2 : Tks (o1_ M2) (q1_ N2) := Tks_a (XF_XA o1_XF) (QF_QA q1_QF) S2.1.1.1
        have y70 : M2 70 = M 70 := (G2.1.1 70 (by decide)).trans x70
        have o70 : o1_ M2 70 = M 70 := by rw [o1_r (by decide)]; exact y70
        have xs2 : XSb M (o1_ M2) := XSb_tr xs1 (XSb_tr (GV_XSb G2) (XA_XSb (XF_XA o1_XF)))
        have qs2 : QSb N (q1_ N2) := QSb_tr qs1 (QSb_tr (GV_QSb G2) (QA_QSb (QF_QA q1_QF)))
        have y63 : N2 6 63 = N 6 63 + 1 := by rw [G2.2.1.2.1 63 (by decide) (by decide) (by decide)]; exact e63
        have y54 : M2 5 = M1 5 := G2.1.1 5 (by decide)
        have m50 : M2 5 0 = M 5 0 := by rw [y54, G1.1.2.2.1 0 (by decide)]
        have sg2 := S2.1.2.1.1
        have m5 := sg2.1.1
        have a2' := ER_a hE2
        refine y_121 oE2 (by decide) (fun hb => by rw [o70]; show tS (M 70) 241 a2 ≠ none; rw [← hsy]; exact hS hb) (fun k2 h13 _ => ?_) (fun hb k2 h13 => ?_) (fun hb k2 => ?_)
        · have k2' : M2 70 a2 = 241 := by have := k2; rw [o1_r (by decide)] at this; exact this
          have hE3 := (ER_go hE2 h13 (by rw [k2']; decide)).1
          have S3 := SL_go S2 hE3
          have m71 : nX_ M2 71 = M 71 := by rw [nX_ne (by decide), G2.1.1 71 (by decide)]; exact x71
          have S4 := SL_38 (s := s) (k := M 5 4) (n := j' + 1) (c := N 6 63) (v := j' + 1) S3
          have x38 : X38 b s (nX_ M2) (M 5 4) (j' + 1) 1 7 = M2 1 7 := by rw [X38_r (by decide), nX_1 (by decide)]
          have fl2 := S2.1.2.2.2.2.2.1
          have g71 : X38 b s (nX_ M2) (M 5 4) (j' + 1) 71 = M 71 := by rw [X38_r (by decide)]; exact m71
          have ga : gd_ (X38 b s (nX_ M2) (M 5 4) (j' + 1)) a := gd_c (by rw [X38_r (by decide), nX_ne (by decide)]; exact y70) hE.1
          have S5 := SL_n (kk := nvK M2 b s (j' + 1)) (tk := a) S4 nvK_r ga (by rw [x38]; omega)
          rw [g71] at S5
          refine x_201 (d := 126) hE2 S2.1.1.2.1 (fun hb => ⟨by omega, by have := e54 hb; omega⟩) (fun hb => by omega) (by omega) (by omega) (ER_fl hE2) ?_
          refine hK _ _ (a2 + 1) (SL_le S5.1 (by omega)) (by omega) (SLG_v h01 G1 e54 e63 (by rw [h.1.1.2.1.2.1, ← G1.1.2.1 18 (by decide)]; exact G2) (by omega) e200 (fun hb hk sne => ?_) S5.2.2) (by rw [hsy]; exact tS_e (by rw [← y70]; exact k2') h13) (fun G Qtq hg => q10' G Qtq (hq G Qtq ?_))
          · have g2 := S2.1.2.1.1
            have V2 := S2.1.1.2.1
            have nr := hk
            unfold nvK at nr
            rw [if_neg (by omega)] at nr
            have rg := hs
            have c2 : s < 100 := by
              by_cases c : s < 100
              · exact c
              · rw [if_neg c] at nr; split at nr <;> omega
            rw [if_pos c2] at nr
            have nn : j' + 1 = M2 112 s := by
              by_cases c : j' + 1 = M2 112 s
              · exact c
              · rw [if_neg c] at nr; omega
            have gs := g2.2 s (by omega) (by rw [m50]; omega)
            have m1 : ∀ r : Nat, r = 112 ∨ r = 113 ∨ r = 130 ∨ r = 124 → M1 r = M2 r := fun r hr => (G2.1.1 r (by rcases hr with e | e | e | e <;> (rw [e]; decide))).symm
            have n1 : ∀ r : Nat, r = 156 ∨ r = 157 ∨ r = 182 ∨ r = 171 → N1 r = N2 r := fun r hr => (G2.2.1.1 r (by rcases hr with e | e | e | e <;> (rw [e]; decide))).symm
            rw [m1 112 (by omega), m1 113 (by omega), m1 130 (by omega), n1 156 (by omega), n1 157 (by omega), n1 182 (by omega), n1 171 (by omega)]
            refine ⟨⟨by omega, by omega, by omega, gs.1.2.2⟩, fun v v0 v1 => (gs.2 v v0 v1).2.2, fun u u0 u1 => ?_⟩
            have e61 : N 6 61 = M2 1 18 := by rw [G2.1.2.1 18 (by decide) (by decide) (by decide) (by decide), G1.1.2.1 18 (by decide)]; exact h.1.1.2.1.2.1
            rw [e61] at u1 ⊢
            exact (V2.2.2.2.2.2.2.1 u u0 (by rw [← V2.2.2.2.2.1.2.2]; exact u1)).2.2.1
          refine q_102e hE2 S2.1.1.1 sg2 k2' h13 hE3 (by omega) (by rw [m50]; exact hs) (by omega) hg
        · have hsp := SQ_bf oE2 hb (k := 2) (by decide) QA_rf
          refine hQ hb _ (XSb_tr xs2 (XA_XSb (XF_XA fl_XF))) (fun G Qtq hg => q10' G Qtq (hq G Qtq fun V' hV' hW' => ?_))
          refine b_310_102 (Tr_mono _) hV' hW' _ _ _ _ _ _ _ (j_243r oT2 oE2 hb (by decide) k2 h13 (q_227s hsp.1 (by rw [if_neg (by decide)]; exact rv_i (hg _ ⟨hsp.1, hsp.2.1, hsp.2.2.1, hsp.2.2.2.1, QSb_tr qs2 (QA_QSb hsp.2.2.2.2)⟩))))
        · have hsp := SQ_bf oE2 hb (k := 1) (by decide) QA_rf
          refine hQ hb _ (XSb_tr xs2 (XA_XSb (XF_XA fl_XF))) (fun G Qtq hg => q10' G Qtq (hq G Qtq fun V' hV' hW' => ?_))
          refine b_310_102 (Tr_mono _) hV' hW' _ _ _ _ _ _ _ (j_243w oT2 oE2 hb (by decide) k2 (q_227s hsp.1 (by rw [if_neg (by decide)]; exact rv_i (hg _ ⟨hsp.1, hsp.2.1, hsp.2.2.1, hsp.2.2.2.1, QSb_tr qs2 (QA_QSb hsp.2.2.2.2)⟩))))
      · exact hQ hb Mx' (XSb_tr xs1 hx) (fun G Qtq hg => q10' G Qtq (hq G Qtq fun M' p => hg _ ⟨p.1, p.2.1, p.2.2.1, p.2.2.2.1, QSb_tr qs1 p.2.2.2.2⟩))
    · rcases h01 with hb | hb
      · refine b_169_135 (Tr_mono _) hV hW _ _ _ _ _ _ ?_
        have oE' : ER b F (o1_ M1) (q1_ N1) (a + 1) 1 := oE
        refine y_105 oE' (by rw [up_ne (by decide), c]; decide) (fun hb1 => by omega) (fun h14 _ => by omega) (fun _ h14 => ?_)
        have hsp := SQ_bf oE' hb (k := 2) (by decide) QA_rf
        refine hQ hb _ (XSb_tr xs1 (XSb_tr (XA_XSb (XF_XA o1_XF)) (XA_XSb (XF_XA fl_XF)))) (fun G Qtq hg => q9 G Qtq ?_)
        refine t_310 fun V' hV' hW' => b_310_0 (Tr_mono _) hV' hW' _ _ _ _ ?_
        refine j_239r hT1 hE1 hb (by decide) c h14 (by decide) ?_
        refine q18_s hV' hW' hsp.1 (hg _ ⟨hsp.1, hsp.2.1, hsp.2.2.1, hsp.2.2.2.1, QSb_tr qs1 (QSb_tr (QA_QSb (QF_QA q1_QF)) (QA_QSb hsp.2.2.2.2))⟩)
      · exfalso
        have := IV_g (by omega) (by omega) (hS hb)
        omega
  · rw [if_pos rfl]
    have c' : M 70 (a + 1) ≠ 240 := by rw [← x70]; exact c
    rw [if_neg c'] at hK
    refine rv_i (hK M1 N1 (a + 1) S1 (by omega) G1 rfl (fun G Qtq hg => q8 G Qtq fun V' => j_237f hT1 hE1 (by decide) c ?_))
    rw [if_pos rfl]
    exact rv_i hg
end IO
end T201_in
section T202_in
/-! inputs: an in whole (X 169 | Q 308), joined -/
section IP
variable {dq : Nat} {b F : Int} {M N M1 N1 : mm_} {s k kk a mask ee w : Int} {Kv G : mm_ → Prop} {Qt Qtq : qt_} {V : vv_}
theorem inS_n [Inhabited gh_] (hk : M 70 a = 100) (h12 : a < 1200) : inS (M 70) a = if M 70 (a + 1) = 240 then IV (M 70) (a + 1, 0) else some (a + 1) := by
  unfold inS
  rw [if_neg (by rw [hk]; decide), tS_e hk h12, Option.bind_some]
theorem y_169 [Inhabited gh_] (h : SL b F M N a mask ee 0) (he : ee ≤ -1) (hS : b = 1 → inS (M 70) a ≠ none)
    (hK : ∀ M' N' a', SL b F M' N' a' mask (ee + 1) 0 → a + 1 ≤ a' → SLG b 0 M N M' N' → inS (M 70) a = some a' → (∀ (G : mm_ → Prop) (Qtq : qt_), G N' → Tr_ wd0 pg0 (dq + 16) 308 [.inr (.inr 6), .inl k, .inl mask, .inl 1] N (rv_ G) Qtq) → Kv M')
    (hQ : b = 0 → ∀ Mx', XSb M Mx' → (∀ (G : mm_ → Prop) (Qtq : qt_), (∀ M', SQb Mx' N M' → G M') → Tr_ wd0 pg0 (dq + 16) 308 [.inr (.inr 6), .inl k, .inl mask, .inl 1] N (rv_ G) Qtq) → Qt 8 Mx') :
    Tr_ wd0 pg0 128 169 [.inr (.inr 1)] M (rv_ Kv) Qt := by
  have hE := TS_E h.1
  have hT := h.1.1.1
  have ha := ER_a hE
  have h01 := bl01 hE
  have b1 := h.2.1
  have hV2 := h.1.1.2.1.1
  have stopped : ∀ {Mx' M2 : mm_}, SQ Mx' N M2 → SQb Mx' N M2 := fun hs => ⟨hs.1, hs.2.1, hs.2.2.1, hs.2.2.2.1, QA_QSb hs.2.2.2.2⟩
  refine t_169 fun V hV hW => b_169_0 (Tr_mono _) hV hW _ ?_
  refine y_117 hE (by decide) (fun c => ?_) (fun c => ?_)
  · -- '*'
    rw [if_neg (by decide)]
    have eS : inS (M 70) a = gS a := by unfold inS; rw [if_pos (show M 70 a = 242 from c)]
    rw [eS] at hS hK
    have main := x_st (d := 121) (Qt := Qt) (Kv := fun M8 => rv_ Kv [] M8) h c (by omega) hS (fun kk hH h0 h12 hE1 => ?_) (fun hb h12 => ?_)
    · exact main
    · have P := y_hn (s := 200) (kk := kk) h hE1 (.inl rfl) (.inr (.inl rfl)) hH h0
      have eg : ∀ X : mm_, Xg_ b 0 200 X = X := fun X => by unfold Xg_; rw [if_neg (by omega)]
      rw [eg] at P
      exact rv_i (hK _ _ (a + 1) P.1 (by omega) P.2.1 (gS_e h12) (fun G Qtq hg => q_308a (d := dq + 12) h c h12 hE1 hH (by omega) hg))
    · have hsp := SQ_bf hE hb (k := 2) (by decide) QA_rf
      exact hQ hb _ (XA_XSb (XF_XA fl_XF)) (fun G Qtq hg => q_308b (d := dq + 12) hE hT hb c h12 (hg _ (stopped hsp)))
  · rw [if_pos rfl]
    have eS : inS (M 70) a = (tS (M 70) 100 a).bind fun a1 => if M 70 a1 = 240 then IV (M 70) (a1, 0) else some a1 := by unfold inS; rw [if_neg (show ¬ M 70 a = 242 from c)]
    refine y_107 (d := 123) hE (fun hb => by have := hS hb; rw [eS] at this; exact bind_n this) (fun hk1 h12 hE1 => ?_) (fun hb hk1 h12 => ?_) (fun hb hk1 => ?_)
    rotate_left
    · have hsp := SQ_bf hE hb (k := 2) (by decide) QA_rf
      refine hQ hb _ (XA_XSb (XF_XA fl_XF)) (fun G Qtq hg => q_308s (d := dq + 12) hE hT hb (.inr h12) c ?_)
      rw [if_pos hk1]; exact hg _ (stopped hsp)
    · have hsp := SQ_bf hE hb (k := 1) (by decide) QA_rf
      refine hQ hb _ (XA_XSb (XF_XA fl_XF)) (fun G Qtq hg => q_308s (d := dq + 12) hE hT hb (.inl hk1) c ?_)
      rw [if_neg hk1]; exact hg _ (stopped hsp)
    rw [inS_n hk1 h12] at hS hK
    have sr := sot_r h.1.1.2.1 h.1.2.1.1.1 (v := N 151 a)
    have m5 := h.1.2.1.1.1.1
    have sg := sgl_r h.1.1.2.1 h.1.2.1.1.1 (v := N 151 a)
    have tail : ∀ kk, (b = 1 → HK (nX_ M) (sot N (N 151 a)) kk) → (b = 0 → kk = 0) → Tr_ wd0 pg0 127 117 [.inr (.inr 1), .inl 40] (Xg_ b 0 (sot N (N 151 a)) (Xh_ b (Xn_ (nX_ M) b kk a) 0 (sot N (N 151 a)))) (ri_ fun v2 M2 => if v2 = 0 then rv_ Kv [] M2 else Tr_ wd0 pg0 127 118 [.inr (.inr 1)] M2 (rv_ fun M3 => V 135 [rr 1, ii a, ii (if b = 0 then -1 else sot N (N 151 a)), ii (if b = 0 then -1 else M 5 4), ii 0, ii (M3 1 3), none] [] M3) Qt) Qt := fun kk hH h0 => by
      have P := y_hn (s := sot N (N 151 a)) (kk := kk) h hE1 (.inl rfl) (by omega) hH h0
      have e63 : inM_ (Qn_ (nx_ N) b kk (M 71 a)) (sot N (N 151 a)) 6 63 = N 6 63 + 1 := by rw [inM_63, Qn_6 (by decide) (by decide), nx_6 (by decide)]
      have e63' : Qn_ (nx_ N) b kk (M 71 a) 6 63 = N 6 63 := by rw [Qn_6 (by decide) (by decide), nx_6 (by decide)]
      refine y_in2 (dq := dq) (k := k) hV hW h he hk1 P.1 P.2.1 P.2.2.2 (fun hb => ?_) e63 (fun hb => ?_) (by omega) hS (fun G Qtq hq => ?_) hK hQ
      · rw [Xg_r (by decide), Xh_54, if_neg (by omega), Xn_r (by decide), nX_ne (by decide)]
      · rw [inM_200, if_pos e63'.symm]
      · refine q_308h (d := dq + 12) h hk1 h12 hE1 rfl hH (by omega) (fun V' hV' hW' => ?_)
        refine b_308_132 (Tr_mono _) hV' hW' _ _ _ _ _ _ _ ⟨by omega, by omega, ?_⟩
        rw [if_neg (by decide), if_neg (by omega), w32_id (x := Qn_ (nx_ N) b kk (M 71 a) 6 63 + 1) (by omega) (by omega)]
        have e := hq V'
        rw [e63']
        have ei : up_ (up_ (up_ (Qn_ (nx_ N) b kk (M 71 a)) 200 (N 6 63) (sot N (N 151 a))) 201 (N 6 63) 0) 6 63 (N 6 63 + 1) = inM_ (Qn_ (nx_ N) b kk (M 71 a)) (sot N (N 151 a)) := by unfold inM_; rw [e63']
        rw [ei]
        exact e
    intro _
    have m8 : nX_ M 1 8 = b := by rw [nX_1 (by decide)]; exact hE.2.2.2.2.2.2.1
    rcases h01 with hb | hb
    · rw [if_pos (by omega)]
      have := tail 0 (fun hb1 => by omega) (fun _ => rfl)
      have e1 : Xg_ b 0 (sot N (N 151 a)) (Xh_ b (Xn_ (nX_ M) b 0 a) 0 (sot N (N 151 a))) = nX_ M := by
        unfold Xg_ Xh_ Xn_; rw [if_neg (by omega), if_pos hb, if_pos (.inl hb)]
      rw [e1, if_pos hb, if_pos hb] at this
      exact this
    · rw [if_neg (by omega)]
      have S1 := SL_go h hE1
      have x54 : nX_ M 5 4 = M 5 4 := by rw [nX_ne (by decide)]
      have es : sot (nx_ N) (nx_ N 151 a) = sot N (N 151 a) := by
        unfold sot
        rw [nx_ne (r := 151) (by decide), tmr_c nx_QF, sgl_a (QF_QA nx_QF)]
      refine x_hn (d := 122) (A := fun v M5 => V 83 [rr 1, ii a, ii v, ii (-1), none, none, none] [] M5) S1 ⟨gd_c (nX_ne (by decide)) hE.1, by rw [nX_ne (by decide)]; exact hk1⟩ (by rw [x54]; omega) (fun kk hH => ?_)
      rw [es] at hH ⊢
      have T := tail kk (fun _ => hH) (fun hb0 => by omega)
      rw [if_neg (show ¬ b = 0 by omega), if_neg (show ¬ b = 0 by omega)] at T
      generalize sot N (N 151 a) = s at T hH sr sg ⊢
      have eXh : Xh_ b (Xn_ (nX_ M) b kk a) 0 s = stX_ (Xn_ (nX_ M) 1 kk a) 0 s := by unfold Xh_; rw [if_neg (by omega), hb]
      rw [eXh] at T
      have y54 : Xn_ (nX_ M) 1 kk a 5 4 = M 5 4 := by rw [Xn_r (by decide), x54]
      refine b_169_83 (Tr_mono _) hV hW _ _ _ _ (x_171 (by rw [Xn_1 (by decide) (by decide) (by decide), nX_1 (by decide)]; exact hV2) (by rw [y54]; omega) ?_)
      rw [y54]
      by_cases c1 : s < 0
      · rw [if_pos c1]
        unfold Xg_ at T; rw [if_neg (by omega)] at T
        exact T
      · rw [if_neg c1]
        by_cases c2 : s < 100
        · rw [if_pos c2]
          unfold Xg_ at T; rw [if_pos ⟨hb, rfl, by omega, c2⟩] at T
          exact T
        · rw [if_neg c2]
          unfold Xg_ at T; rw [if_neg (by omega)] at T
          exact T
end IP
end T202_in
section T203_ip
/-! INPUT: its ins (X 168 V 8 | Q 306 V 9) -/
def ilT (κ : Int → Int) (a : Int) : Option (Int ⊕ Int) := (inS κ a).bind fun a1 => if κ a1 = 244 then (gS a1).bind fun a2 => some (.inl a2) else some (.inr a1)
def IL (κ : Int → Int) (a : Int) : Option Int := LPz (ilT κ) a
section ILs
variable {κ : Int → Int} {a : Int}
theorem IV_s [Inhabited gh_] {s r : Int × Int} {x : Int} (h0 : 0 ≤ s.1) (h1 : s.1 ≤ 1200) (h : IV κ s = some x) : s.1 ≤ x ∧ x ≤ 1200 := by
  refine lpS_r (step := ivT κ) (fun s => s.1) (fun s s' => ivT_l s s') (fun s a h0 h1 h => ?_) 1300 s x h0 h1 h
  unfold ivT at h
  cases e : gS s.1 with
  | none => rw [e] at h; exact absurd h (by simp only [Option.bind_none]; intro x; cases x)
  | some a1 =>
    rw [e, Option.bind_some] at h
    have g := gS_s e
    by_cases c3 : s.2 = 3
    · rw [if_pos c3] at h; cases h
    · rw [if_neg c3] at h
      cases e2 : tS κ 100 a1 with
      | none => rw [e2] at h; exact absurd h (by simp only [Option.bind_none]; intro x; cases x)
      | some a2 =>
        rw [e2, Option.bind_some] at h
        have t := tS_s e2
        by_cases c : κ a2 = 244
        · rw [if_pos c] at h; injection h with h; cases h
        · rw [if_neg c] at h
          cases e3 : tS κ 241 a2 with
          | none => rw [e3] at h; exact absurd h (by simp only [Option.bind_none]; intro x; cases x)
          | some a3 =>
            rw [e3, Option.bind_some] at h; injection h with h; injection h with h
            have t3 := tS_s e3
            omega
theorem inS_s [Inhabited gh_] {x : Int} (h0 : 0 ≤ a) (h1 : a ≤ 1200) (h : inS κ a = some x) : a + 1 ≤ x ∧ x ≤ 1200 := by
  unfold inS at h
  by_cases c : κ a = 242
  · rw [if_pos c] at h; have := gS_s h; omega
  · rw [if_neg c] at h
    cases e : tS κ 100 a with
    | none => rw [e] at h; exact absurd h (by simp only [Option.bind_none]; intro x; cases x)
    | some a1 =>
      rw [e, Option.bind_some] at h
      have t := tS_s e
      by_cases c2 : κ a1 = 240
      · rw [if_pos c2] at h
        have := IV_s (s := (a1, 0)) (r := (0, 0)) (show (0 : Int) ≤ a1 by omega) (show a1 ≤ 1200 by omega) h
        have : a1 ≤ x := this.1
        omega
      · rw [if_neg c2] at h; injection h with h; omega
theorem ilT_y [Inhabited gh_] {L : Int → Option Int} {X : Option Int} (hX : inS κ a = X) : (ilT κ a).bind (lk8_ L) = X.bind fun a1 => if κ a1 = 244 then (gS a1).bind L else some a1 := by
  unfold ilT
  rw [hX]
  cases X with
  | none => rfl
  | some a1 =>
    rw [Option.bind_some, Option.bind_some]
    by_cases c : κ a1 = 244
    · rw [if_pos c, if_pos c]
      cases gS a1 with
      | none => rfl
      | some a2 => rfl
    · rw [if_neg c, if_neg c]; rfl
theorem ilT_l [Inhabited gh_] (s s' : Int) (h0 : 0 ≤ s) (h1 : s ≤ 1200) (h : ilT κ s = some (.inl s')) : s + 1 ≤ s' ∧ s' ≤ 1200 := by
  unfold ilT at h
  cases e : inS κ s with
  | none => rw [e] at h; exact absurd h (by simp only [Option.bind_none]; intro x; cases x)
  | some a1 =>
    rw [e, Option.bind_some] at h
    have t := inS_s h0 h1 e
    by_cases c : κ a1 = 244
    · rw [if_pos c] at h
      cases e2 : gS a1 with
      | none => rw [e2] at h; exact absurd h (by simp only [Option.bind_none]; intro x; cases x)
      | some a2 =>
        rw [e2, Option.bind_some] at h
        have g := gS_s e2
        injection h with h; injection h with h
        omega
    · rw [if_neg c] at h
      injection h with h; cases h
theorem IL_e [Inhabited gh_] (h0 : 0 ≤ a) (h1 : a ≤ 1200) : IL κ a = (inS κ a).bind fun a1 => if κ a1 = 244 then (gS a1).bind (IL κ) else some a1 := (LP_u (step := ilT κ) (fun s => s) (fun s s' => ilT_l s s') (s := a) h0 h1).trans (ilT_y rfl)
end ILs
/-- Q at an in of an input -/
def q06 (dq : Nat) (mask k x3 : Int) (N : mm_) (G : mm_ → Prop) (Qt : qt_) : Prop := ∀ V : vv_, Cl_ wd0 (Tr_ wd0 pg0 (dq + 16)) V (rv_ G) Qt m_306 → Wk_ V → V 9 [rr 6, ii mask, ii k, ii x3] [] N
/-- X behind an in -/
def z168 (V : vv_) (Qt : qt_) (x1 : Int) (M2 : mm_) : Prop := Tr_ wd0 pg0 128 117 [.inr (.inr 1), .inl 44] M2 (ri_ fun v1 M3 =>
    (if v1 = 0 then
     Tr_ wd0 pg0 128 103 [.inr (.inr 1), .inl 26] M3 (ri_ fun v2 M4 =>
      (if v2 = 0 then
       V 52 [rr 1, ii x1, ii ((-1)), none, none] [] M4
      else
       Tr_ wd0 pg0 128 105 [.inr (.inr 1)] M4 (rv_ fun M5 =>
        M5 1 2 = 5 ∧
         Tr_ wd0 pg0 128 174 [.inr (.inr 1)] M5 (rv_ fun M6 =>
         V 52 [rr 1, ii x1, ii (M5 5 3), none, none] [] M6) Qt) Qt)) Qt
    else
     V 8 [rr 1, ii x1, none, none, none] [] M3)) Qt
section IQ
variable {dq : Nat} {b F : Int} {mask k f : Int} {Kv : mm_ → Prop} {Qt : qt_} {V : vv_}
theorem q74_s [Inhabited gh_] {V' : vv_} {G : mm_ → Prop} {Qtq : qt_} {N : mm_} {x3 : Int} (hV : Cl_ wd0 (Tr_ wd0 pg0 (dq + 16)) V' (rv_ G) Qtq m_306) (hW : Wk_ V') (hs : sp_ N) (h : G N) : V' 74 [rr 6, ii mask, ii k, ii x3] [] N := b_306_74 (Tr_mono _) hV hW _ _ _ _ (q_244s hs (q_227s hs (by rw [if_neg (by decide)]; exact q_260z hs (rv_i h))))
theorem q37_s [Inhabited gh_] {V' : vv_} {G : mm_ → Prop} {Qtq : qt_} {N : mm_} {x3 : Int} (hV : Cl_ wd0 (Tr_ wd0 pg0 (dq + 16)) V' (rv_ G) Qtq m_306) (hW : Wk_ V') (hs : sp_ N) (h : G N) : V' 37 [rr 6, ii mask, ii k, ii x3] [] N := b_306_37 (Tr_mono _) hV hW _ _ _ _ (q_227s hs (by
  rw [if_neg (by decide)]
  exact q_228s hs (by rw [if_pos rfl]; exact q74_s hV hW hs h)))
theorem q9_s [Inhabited gh_] {V' : vv_} {G : mm_ → Prop} {Qtq : qt_} {N : mm_} {x3 : Int} (hV : Cl_ wd0 (Tr_ wd0 pg0 (dq + 16)) V' (rv_ G) Qtq m_306) (hW : Wk_ V') (hs : sp_ N) (h : G N) : V' 9 [rr 6, ii mask, ii k, ii x3] [] N := by
  refine b_306_9 (Tr_mono _) hV hW _ _ _ _ ?_
  by_cases c : x3 = 0
  · rw [if_pos c]; exact q37_s hV hW hs h
  · rw [if_neg c]; exact q_227s hs (by rw [if_neg (by decide)]; exact q37_s hV hW hs h)
theorem l_168 [Inhabited gh_] (hV : Cl_ wd0 (Tr_ wd0 pg0 128) V (rv_ Kv) Qt m_168) (hW : Wk_ V) :
    ∀ (n : Nat) (a : Int) (M N : mm_), 1201 - a ≤ (n : Int) → SL b F M N a mask (-1) 0 → (b = 1 → IL (M 70) a ≠ none) →
    (∀ M' N' a', SL b F M' N' a' mask 0 0 → a + 1 ≤ a' → SLG b 0 M N M' N' → M' 70 a' ≠ 244 → IL (M 70) a = some a' → (∀ (G : mm_ → Prop) (Qtq : qt_), q06 dq mask k 0 N' G Qtq → q06 dq mask k 1 N G Qtq) → z168 V Qt f M') →
    (b = 0 → ∀ Mx', XSb M Mx' → (∀ (G : mm_ → Prop) (Qtq : qt_), (∀ M', SQb Mx' N M' → G M') → q06 dq mask k 1 N G Qtq) → Qt 8 Mx') →
    Tr_ wd0 pg0 128 169 [.inr (.inr 1)] M (rv_ (z168 V Qt f)) Qt
  | 0, a, M, N, hn, h, _, _, _ => by have := ER_a (TS_E h.1); omega
  | n + 1, a, M, N, hn, h, hS, hK, hQ => by
    have hE := TS_E h.1
    have ha := ER_a hE
    rw [IL_e ha.1 ha.2] at hS hK
    have q8 : ∀ (G : mm_ → Prop) (Qtq : qt_), (∀ V' : vv_, Cl_ wd0 (Tr_ wd0 pg0 (dq + 16)) V' (rv_ G) Qtq m_306 → Wk_ V' → Tr_ wd0 pg0 (dq + 16) 308 [.inr (.inr 6), .inl k, .inl mask, .inl 1] N (rv_ fun M2 => Tr_ wd0 pg0 (dq + 16) 242 [.inr (.inr 6), .inl 44] M2 (ri_ fun v2 M3 => V' 9 [rr 6, ii mask, ii k, ii v2] [] M3) Qtq) Qtq) → q06 dq mask k 1 N G Qtq := fun G Qtq hq V' hV' hW' => by
      refine b_306_9 (Tr_mono _) hV' hW' _ _ _ _ ?_
      rw [if_neg (by decide)]
      refine q_227g (ER_goq hE) ?_
      rw [if_pos rfl]
      exact hq V' hV' hW'
    refine y_169 (dq := dq) (k := k) h (by decide) (fun hb => bind_n (hS hb)) (fun M1 N1 a1 S1 ha1 G1 hsy hq1 => ?_) (fun hb Mx' hx hq => ?_)
    rotate_left
    · exact hQ hb Mx' hx (fun G Qtq hg => q8 G Qtq fun V' hV' hW' => hq _ _ fun M' p => q_242s p.1 (q9_s hV' hW' p.1 (hg _ p)))
    rw [show (-1 : Int) + 1 = 0 by decide] at S1
    rw [hsy, Option.bind_some] at hS hK
    have hE1 := TS_E S1.1
    have hT1 := S1.1.1.1
    have x70 : M1 70 = M 70 := G1.1.1 70 (by decide)
    have q9 : ∀ (G : mm_ → Prop) (Qtq : qt_), (∀ V' : vv_, Cl_ wd0 (Tr_ wd0 pg0 (dq + 16)) V' (rv_ G) Qtq m_306 → Wk_ V' → Tr_ wd0 pg0 (dq + 16) 242 [.inr (.inr 6), .inl 44] N1 (ri_ fun v2 M3 => V' 9 [rr 6, ii mask, ii k, ii v2] [] M3) Qtq) → q06 dq mask k 1 N G Qtq := fun G Qtq hq => q8 G Qtq fun V' hV' hW' => hq1 _ _ (hq V' hV' hW')
    by_cases c : M1 70 a1 = 244
    · have c' : M 70 a1 = 244 := by rw [← x70]; exact c
      rw [if_pos c'] at hS hK
      unfold z168
      refine y_117 hE1 (by decide) (fun _ => ?_) (fun c2 => absurd c c2)
      rw [if_neg (by decide)]
      refine b_168_8 (Tr_mono _) hV hW _ _ ?_
      refine y_105 hE1 (by rw [c]; decide) (fun hb => bind_n (hS hb)) (fun h12 hE2 => ?_) (fun hb h12 => ?_)
      · rw [gS_e h12, Option.bind_some] at hS hK
        have S2 := SL_go S1 hE2
        rw [show (0 : Int) - 1 = -1 by decide] at S2
        have y70 : nX_ M1 70 = M 70 := by rw [nX_ne (by decide)]; exact x70
        have q10 : ∀ (G : mm_ → Prop) (Qtq : qt_), q06 dq mask k 1 (nx_ N1) G Qtq → q06 dq mask k 1 N G Qtq := fun G Qtq hq => q9 G Qtq fun V' hV' hW' => j_242t hT1 hE1 (by decide) c h12 (hq V' hV' hW')
        have G2 : SLG b 0 M N (nX_ M1) (nx_ N1) := SLG_tr G1 SLG_go
        refine l_168 hV hW n (a1 + 1) (nX_ M1) (nx_ N1) (by omega) S2 (by rw [y70]; exact hS) (fun M' N' a' S' ha' G' h44 hsy' hq' => ?_) (fun hb Mx' hx hq => ?_)
        · rw [y70] at hsy'
          exact hK M' N' a' S' (by omega) (SLG_tr G2 G') h44 hsy' (fun G Qtq hg => q10 G Qtq (hq' G Qtq hg))
        · exact hQ hb Mx' (XSb_tr (SLG_XSb G2) hx) (fun G Qtq hg => q10 G Qtq (hq G Qtq fun M' p => hg _ ⟨p.1, p.2.1, p.2.2.1, p.2.2.2.1, QSb_tr (SLG_QSb G2) p.2.2.2.2⟩))
      · have hsp := SQ_bf hE1 hb (k := 2) (by decide) QA_rf
        refine hQ hb _ (XSb_tr (SLG_XSb G1) (XA_XSb (XF_XA fl_XF))) (fun G Qtq hg => q9 G Qtq fun V' hV' hW' => j_242r hT1 hE1 hb (by decide) c h12 ?_)
        exact q9_s hV' hW' hsp.1 (hg _ ⟨hsp.1, hsp.2.1, hsp.2.2.1, hsp.2.2.2.1, QSb_tr (SLG_QSb G1) (QA_QSb hsp.2.2.2.2)⟩)
    · have c' : ¬ M 70 a1 = 244 := by rw [← x70]; exact c
      rw [if_neg c'] at hK
      exact hK M1 N1 a1 S1 (by omega) G1 c rfl (fun G Qtq hq => q9 G Qtq fun V' hV' hW' => j_242f hT1 hE1 (by decide) c (hq V' hV' hW'))
end IQ
end T203_ip
section T204_ip
/-! INPUT: from its semicolon on (X 168 V 52 | Q 306 V 74) -/
/-- n of X's stims from f on get their e and their trans -/
def xiF (e c : Int) : Nat → Int → mm_ → mm_
  | 0, _, M => M
  | n + 1, f, M => xiF e c n (f + 1) (up_ (up_ M 139 f e) 141 f c)
section IT
variable {d dq : Nat} {b F F' : Int} {Mx Mq M N M1 N1 : mm_} {a a' mask k c e f ee i v : Int} {Kv G : mm_ → Prop} {Qt : qt_} {V : vv_}
theorem xiF_r [Inhabited gh_] {r : Nat} (h1 : r ≠ 139) (h2 : r ≠ 141) : ∀ (n : Nat) (f : Int) (M : mm_), xiF e c n f M r = M r
  | 0, _, _ => rfl
  | n + 1, f, M => by
    show xiF e c n (f + 1) (up_ (up_ M 139 f e) 141 f c) r = M r
    rw [xiF_r h1 h2 n, up_ne h2, up_ne h1]
theorem xiF_9 [Inhabited gh_] : ∀ (n : Nat) (f : Int) (M : mm_) (x : Int), xiF e c n f M 139 x = (if f ≤ x ∧ x < f + n then e else M 139 x) ∧ xiF e c n f M 141 x = (if f ≤ x ∧ x < f + n then c else M 141 x)
  | 0, f, M, x => by
    rw [if_neg (by omega), if_neg (by omega)]; exact ⟨rfl, rfl⟩
  | n + 1, f, M, x => by
    have r := xiF_9 n (f + 1) (up_ (up_ M 139 f e) 141 f c) x
    have e1 : xiF e c (n + 1) f M = xiF e c n (f + 1) (up_ (up_ M 139 f e) 141 f c) := rfl
    rw [e1, r.1, r.2]
    by_cases c0 : x = f
    · have n1 : ¬ (f + 1 ≤ x ∧ x < f + 1 + n) := by omega
      have p1 : f ≤ x ∧ x < f + ((n + 1 : Nat) : Int) := by omega
      rw [if_neg n1, if_neg n1, if_pos p1, if_pos p1, c0, up_ne (by decide), up_at, up_at]; exact ⟨rfl, rfl⟩
    · by_cases c1 : f + 1 ≤ x ∧ x < f + 1 + n
      · have p1 : f ≤ x ∧ x < f + ((n + 1 : Nat) : Int) := by omega
        rw [if_pos c1, if_pos c1, if_pos p1, if_pos p1]; exact ⟨rfl, rfl⟩
      · have p1 : ¬ (f ≤ x ∧ x < f + ((n + 1 : Nat) : Int)) := by omega
        rw [if_neg c1, if_neg c1, if_neg p1, if_neg p1, up_ne (by decide), up_of2 c0, up_of2 c0, up_ne (by decide)]; exact ⟨rfl, rfl⟩
theorem SS_x [Inhabited gh_] (h : SS b F Mx Mq a mask ee) (e : ∀ r : Nat, r ≠ 139 → r ≠ 141 → M1 r = Mx r) : SS b F M1 Mq a mask ee := by
  obtain ⟨h1, ⟨s1, s2, s3⟩, hm, h4⟩ := h
  have xb : XSb Mx M1 := ⟨fun r hr => e r (fun h => hr (by rw [h]; decide)) (fun h => hr (by rw [h]; decide)), fun i _ => by rw [e 1 (by decide) (by decide)], fun i _ _ => by rw [e 5 (by decide) (by decide)]⟩
  refine ⟨TS_c h1 xb QSb_rf (fun i _ _ => by rw [e 1 (by decide) (by decide)]) (by rw [e 5 (by decide) (by decide)]) (e _ (by decide) (by decide)) (e _ (by decide) (by decide)) (e _ (by decide) (by decide)) (e _ (by decide) (by decide)) (fun _ _ _ => rfl) rfl rfl rfl rfl rfl, ⟨by rw [e 5 (by decide) (by decide)]; exact s1, s2, s3⟩, hm, fun hb => ?_⟩
  obtain ⟨⟨xs, hs⟩, hl, hmb⟩ := h4 hb
  refine ⟨⟨xs, SRW_c hs (by rw [e 5 (by decide) (by decide)]) (e _ (by decide) (by decide)) (e _ (by decide) (by decide)) (e _ (by decide) (by decide)) (e _ (by decide) (by decide)) (e _ (by decide) (by decide)) rfl rfl rfl rfl rfl rfl rfl rfl⟩, hl, ?_⟩
  rw [e 1 (by decide) (by decide), e 123 (by decide) (by decide)]; exact hmb
theorem l_81 [Inhabited gh_] (hV : Cl_ wd0 (Tr_ wd0 pg0 128) V (rv_ Kv) Qt m_168) (hW : Wk_ V) {x1 : Int} : ∀ (n : Nat) (f : Int) (M : mm_), M 1 2 = 5 → M 5 4 = f + n → 0 ≤ f → M 5 4 ≤ 600 → Kv (xiF e c n f M) → V 81 [rr 1, ii x1, ii e, ii c, ii f] [] M
  | 0, f, M, h2, h4, h0, h6, h => b_168_81 (Tr_mono _) hV hW _ _ _ _ _ ⟨h2, by rw [if_neg (by omega)]; exact rv_i h⟩
  | n + 1, f, M, h2, h4, h0, h6, h => by
    refine b_168_81 (Tr_mono _) hV hW _ _ _ _ _ ⟨h2, ?_⟩
    rw [if_pos (by omega), w32_id (by omega) (by omega)]
    refine ⟨h2, by omega, h2, by omega, l_81 hV hW n (f + 1) _ ?_ ?_ (by omega) ?_ h⟩
    · rw [up_ne (by decide), up_ne (by decide)]; exact h2
    · rw [up_ne (by decide), up_ne (by decide)]; omega
    · rw [up_ne (by decide), up_ne (by decide)]; exact h6
theorem y_168t [Inhabited gh_] {x1 x2 : Int} (h : SS b F Mx Mq a mask ee) (he : ee ≤ 0) (h29 : 2 * Mx 1 29 + 3 ≤ a) (h76 : 2 * Mq 6 76 + 3 ≤ a) (hx1 : 0 ≤ x1 ∧ x1 ≤ Mx 5 4) (hk : 0 ≤ k ∧ k < 1300) (hS : b = 1 → ((tS (Mx 70) 259 a).bind fun a2 => PTj (Mx 70) (LMT Mx) 12 (a2, lc_ b Mx)) ≠ none)
    (hV : Cl_ wd0 (Tr_ wd0 pg0 128) V (rv_ Kv) Qt m_168) (hW : Wk_ V)
    (hK : ∀ F' M' N' a' v kk, SS b F' (xiF x2 (Mx 5 3) (Mx 5 4 - x1).toNat x1 (Xn_ M' b kk a')) (Qn_ N' b kk (M' 71 a')) a' mask (ee - 1) → a + 1 ≤ a' → PRC b F F' (sX_ (nX_ Mx) (Mx 1 34)) (tM_ (up_ (nx_ Mq) 197 k (Mq 6 75)) 0 mask) M' N' (a + 1) a' 0 0 (Mq 6 76) → SEM b (sX_ (nX_ Mx) (Mx 1 34)) (tM_ (up_ (nx_ Mq) 197 k (Mq 6 75)) 0 mask) M' N' v → (v = 0 ∨ v = 1) → kk = (if v = 0 then 6 else 0) → (b = 1 → Qn_ N' b kk (M' 71 a') 6 13 = 0 → kk = 0 ∧ N' 6 13 = 0)
      → (∀ lm, LOK b lm Mx M' → ((tS (Mx 70) 259 a).bind fun a2 => PTj (Mx 70) lm 12 (a2, lc_ b Mx)) = some (a', lc_ b M'))
      → (∀ (V' : vv_) (G : mm_ → Prop) (Qtq : qt_), Cl_ wd0 (Tr_ wd0 pg0 (dq + 16)) V' (rv_ G) Qtq m_306 → Wk_ V' → G (Qn_ N' b kk (M' 71 a')) → V' 74 [rr 6, ii mask, ii k, ii 0] [] Mq) → Kv (xiF x2 (Mx 5 3) (Mx 5 4 - x1).toNat x1 (Xn_ M' b kk a')))
    (hQ : b = 0 → ∀ Mx', XSb Mx Mx' → (∀ (V' : vv_) (G : mm_ → Prop) (Qtq : qt_), Cl_ wd0 (Tr_ wd0 pg0 (dq + 16)) V' (rv_ G) Qtq m_306 → Wk_ V' → (∀ M', SQb Mx' Mq M' → G M') → V' 74 [rr 6, ii mask, ii k, ii 0] [] Mq) → Qt 8 Mx') :
    V 52 [rr 1, ii x1, ii x2, none, none] [] Mx := by
  have hE := TS_E h.1
  have hT := h.1.1.1
  have ha := ER_a hE
  have h01 := bl01 hE
  have hf := h.1.2.2.2.2.2.1
  have bnd := h.2.1
  refine b_168_52 (Tr_mono _) hV hW _ _ _ ?_
  refine y_121 hE (by decide) (fun hb => bind_n (hS hb)) (fun k1 h12 hE1 => ?_) (fun hb k1 h12 => ?_) (fun hb k1 => ?_)
  rotate_left
  · have hsp := SQ_bf hE hb (k := 2) (by decide) QA_rf
    refine hQ hb _ (XA_XSb (XF_XA fl_XF)) (fun V' G Qtq hV' hW' hk9 => b_306_74 (Tr_mono _) hV' hW' _ _ _ _ (j_244r hT hE hb (by decide) k1 h12 (q_227s hsp.1 ?_)))
    rw [if_neg (by decide)]
    exact q_260z hsp.1 (rv_i (hk9 _ ⟨hsp.1, hsp.2.1, hsp.2.2.1, hsp.2.2.2.1, QA_QSb hsp.2.2.2.2⟩))
  · have hsp := SQ_bf hE hb (k := 1) (by decide) QA_rf
    refine hQ hb _ (XA_XSb (XF_XA fl_XF)) (fun V' G Qtq hV' hW' hk9 => b_306_74 (Tr_mono _) hV' hW' _ _ _ _ (j_244w hT hE hb (by decide) k1 (q_227s hsp.1 ?_)))
    rw [if_neg (by decide)]
    exact q_260z hsp.1 (rv_i (hk9 _ ⟨hsp.1, hsp.2.1, hsp.2.2.1, hsp.2.2.2.1, QA_QSb hsp.2.2.2.2⟩))
  have S1 := SS_u (r := 197) (i := k) (v := Mq 6 75) (.inr (.inr rfl)) (SS_go h hE1)
  have f1 : ∀ i : Int, i ≠ 3 → nX_ Mx 1 i = Mx 1 i := fun i hi => nX_1 hi
  have e5 : nX_ Mx 5 = Mx 5 := nX_ne (by decide)
  have x70 : nX_ Mx 70 = Mx 70 := nX_ne (by decide)
  have q6 : up_ (nx_ Mq) 197 k (Mq 6 75) 6 = nx_ Mq 6 := up_ne (by decide)
  have q76 : up_ (nx_ Mq) 197 k (Mq 6 75) 6 76 = Mq 6 76 := by rw [q6, nx_6 (by decide)]
  have eN : ∀ lm j, ((tS (Mx 70) 259 a).bind fun a2 => PTj (Mx 70) lm 12 (a2, j)) = PTj (Mx 70) lm 12 (a + 1, j) := fun lm j => by rw [tS_e (show Mx 70 a = 259 from k1) h12, Option.bind_some]
  have lk := LKP_F (b := b) (nX_XF (M := Mx))
  have qsb : QSb Mq (up_ (nx_ Mq) 197 k (Mq 6 75)) := QSb_tr (QA_QSb (QF_QA nx_QF)) ⟨fun r hr => up_ne (fun h => hr (by rw [h]; decide)), fun j _ => by rw [up_ne (by decide)]⟩
  have toQ : ∀ (V' : vv_) (G : mm_ → Prop) (Qtq : qt_), Cl_ wd0 (Tr_ wd0 pg0 (dq + 16)) V' (rv_ G) Qtq m_306 → Wk_ V' → Tr_ wd0 pg0 (dq + 16) 260 [.inr (.inr 6), .inl 0, .inl mask] (up_ (nx_ Mq) 197 k (Mq 6 75)) (rv_ G) Qtq → V' 74 [rr 6, ii mask, ii k, ii 0] [] Mq := fun V' G Qtq hV' hW' hq => b_306_74 (Tr_mono _) hV' hW' _ _ _ _ (j_244t hT hE (by decide) k1 h12 (q_227g (ER_goq hE1) (by
    rw [if_pos rfl, nx_6 (by decide)]
    exact ⟨hk, Tr_rv hq⟩)))
  refine ⟨by rw [f1 2 (by decide)]; exact h.1.1.2.1.1, ?_⟩
  rw [f1 34 (by decide), e5]
  refine y_trn (d := 127) (dq := dq) (st := 0) (mk := mask) S1.1 (by rw [f1 29 (by decide)]; omega) (by rw [q76]; omega) (by rw [f1 7 (by decide)]; omega) (fun hb => ?_) (.inl rfl) (fun hb => ?_) (fun F' M' N' a' v kk hTS P Sm hv hkk E3 hsy hq => ?_) (fun hb Mx' hx hq => ?_)
  · have := (h.2.2.2 hb).2.2.1.1
    constructor
    · intro e; omega
    · intro e; exact absurd rfl e
  · rw [x70, lk.2, lk.1.2.2.2 hb, ← eN]; exact hS hb
  · have S4 := SS_t S1 hTS P
    have q := P
    rw [q76] at q
    have aa : a + 1 ≤ a' := P.2.2.2.2.1.1
    have y54 : Xn_ M' b kk a' 5 4 = Mx 5 4 := by
      rw [Xn_r (by decide), P.2.2.1.1.2.2 4 (by decide), sX_r (by decide) (by decide) (by decide) (by decide) (by decide), e5]
    have y12 : Xn_ M' b kk a' 1 2 = 5 := hTS.1.2.1.1
    refine l_81 hV hW (Mx 5 4 - x1).toNat x1 (Xn_ M' b kk a') y12 (by omega) hx1.1 (by omega) ?_
    refine hK F' M' N' a' v kk (SS_x S4 (fun r h1 h2 => xiF_r h1 h2 _ _ _)) aa q Sm hv hkk E3 (fun lm hlm => ?_) (fun V' G Qtq hV' hW' hg => toQ V' G Qtq hV' hW' (hq _ _ hg))
    have l1 := (LOK_s lk.1 (LKP_tr (LKP_X (sX_r (by decide) (by decide) (by decide) (by decide) (by decide)) (sX_r (by decide) (by decide) (by decide) (by decide) (by decide)) (sX_1 (by decide)) (sX_1 (by decide))).1 (LKP_P P)) hlm).2
    have e := hsy lm l1
    rw [x70, lk.2] at e
    rw [eN]; exact e
  · exact hQ hb Mx' (XSb_tr (XA_XSb (XF_XA nX_XF)) hx) (fun V' G Qtq hV' hW' hk9 => toQ V' G Qtq hV' hW' (hq _ _ fun M' p1 p2 p3 p4 p5 => hk9 _ ⟨p1, p2, p3, p4, QSb_tr qsb p5⟩))
end IT
end T204_ip

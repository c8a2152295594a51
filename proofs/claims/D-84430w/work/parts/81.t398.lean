section T398_pa
/-! the search: X packs (X 38, 39) -/
def lwf (f : Int → Int) (a : Int) (L : List Int) : Int → Int := fun i => if a ≤ i ∧ i < a + L.length then L.getD (i - a).toNat 0 else f i
def pkW (M : mm_) (a : Int) (L : List Int) : mm_ := up_ (wr_ M 27 (lwf (M 27) a L)) 0 65 (a + L.length)
def hsL (L : List Int) (v : Int) : Int := L.foldl (fun h a => w32 (w32 (31 * h) + a)) v
def hshL (L : List Int) : Int := xo_ (hsL L 17) (us_ (hsL L 17) 13)
def pakX (M : mm_) (k : Int) (L : List Int) : mm_ := up_ (up_ (pkW M (1100 * k) L) 28 k L.length) 29 k (hshL L)
section PXa
variable {M N : mm_} {a k x v on A : Int} {L : List Int}
theorem VR_of [Inhabited fz_] (h : RU 1 M N) : VR N (N 239) := by
  obtain ⟨⟨a1, a2, a3, a4⟩, ⟨b1, b2, b3⟩, _⟩ := h
  refine ⟨⟨by omega, by omega⟩, fun k k0 k1 => ?_, fun k k0 k1 => a4 k (by omega) k1, fun r r0 r1 => ?_, b3⟩
  · obtain ⟨⟨i1, i2, i3, _⟩, c, d, e, ⟨q1, q2, q3⟩, _, q5⟩ := a3 k k0 (by omega)
    refine ⟨by rw [← i1, ← i2, ← i3, ← a2.1]; exact c, by rw [← i2]; exact d.2, fun t t0 t1 => ?_, by omega, by rw [q3]; exact q5⟩
    have tm := e t t0 t1
    rw [← i2]
    rcases tm.1 with ⟨c1, c2, c3⟩ | ⟨c1, c2⟩
    · exact ⟨.inl (by omega), fun h => by have := tm.2 h; omega⟩
    · exact ⟨.inr c2, fun _ => c2⟩
  · obtain ⟨⟨c1, c2, c3⟩, d, e⟩ := b2 r r0 r1
    exact ⟨by omega, fun q q0 q1 => (d q q0 (by omega)).2.2.2 rfl, by rw [c3]; exact e⟩
theorem pkW_r [Inhabited fz_] {r : Nat} (h : r ≠ 27) (h' : r ≠ 0) : pkW M a L r = M r := by unfold pkW; rw [up_ne h', wr_ne h]
theorem pkW_0 [Inhabited fz_] {i : Int} (h : i ≠ 65) : pkW M a L 0 i = M 0 i := by unfold pkW; rw [upo h, wr_ne (by decide)]
theorem pkW_65 [Inhabited fz_] : pkW M a L 0 65 = a + L.length := by unfold pkW; rw [up_at]
theorem lwf_s [Inhabited fz_] {f : Int → Int} : lwf f a (L ++ [v]) = su_ (lwf f a L) (a + L.length) v := by
  funext i
  unfold su_ lwf
  rw [List.length_append]
  by_cases c : i = a + L.length
  · rw [if_pos c, if_pos ⟨by omega, by simp only [List.length_cons, List.length_nil]; omega⟩]
    rw [show (i - a).toNat = L.length by omega]
    simp
  · rw [if_neg c]
    by_cases c2 : a ≤ i ∧ i < a + L.length
    · rw [if_pos c2, if_pos ⟨c2.1, by simp only [List.length_cons, List.length_nil]; omega⟩]
      rw [List.getD_eq_getElem?_getD, List.getD_eq_getElem?_getD, List.getElem?_append_left (by omega)]
    · rw [if_neg c2, if_neg (by simp only [List.length_cons, List.length_nil]; omega)]
theorem pkW_s [Inhabited fz_] : up_ (up_ (pkW M a L) 27 (a + L.length) v) 0 65 (a + L.length + 1) = pkW M a (L ++ [v]) := by
  unfold pkW
  rw [lwf_s]
  funext r
  by_cases c : r = 0
  · subst c
    funext i
    by_cases c2 : i = 65
    · subst c2; rw [up_at, up_at]; simp only [List.length_append, List.length_cons, List.length_nil]; omega
    · rw [upo c2, upo c2, up_ne (by decide), upo c2, wr_ne (by decide), wr_ne (by decide)]
  · rw [up_ne c, up_ne c]
    by_cases c2 : r = 27
    · subst c2
      rw [wr_same]
      funext i
      unfold su_
      by_cases c3 : i = a + L.length
      · rw [c3, up_at, if_pos rfl]
      · rw [upo c3, if_neg c3, up_ne (by decide), wr_same]
    · rw [up_ne c2, up_ne c, wr_ne c2, wr_ne c2]
theorem x_39 [Inhabited fz_] (h0 : 0 ≤ a) (h1 : a + L.length < 221100) : Ex_ 1 39 [.inr (.inr 0), .inl v] (pkW M a L) [] (pkW M a (L ++ [v])) := fun Qr Qt g => t_39 fun V hV hW => b_39_0 (Tr_mono _) hV hW _ _ (by
  rw [pkW_65, w32_id (x := a + L.length + 1) (by omega) (by omega), pkW_s]
  exact ⟨by omega, g⟩)
/-- cells -/
theorem x_145c [Inhabited fz_] {V : vv_} {Qr : qr_} {Qt : qt_} (hV : Cl_ wd0 (Tr_ wd0 pg0 1) V Qr Qt m_38) (hW : Wk_ V) (hx : 0 ≤ x ∧ x < 12) (hT : 0 ≤ M 11 x ∧ M 11 x < 6) (hC : M 92 (M 11 x) ≤ 16) (hA : 0 ≤ A) :
    ∀ (n : Nat) (c : Int) (L : List Int), c + n = M 92 (M 11 x) → 0 ≤ c → A + L.length + n < 221100 → V 145 [rr 0, ii k, ii x, ii on, ii (M 92 (M 11 x))] [] (pkW M A (L ++ rgl (fun c => M 13 (16 * x + c)) c n)) → V 145 [rr 0, ii k, ii x, ii on, ii c] [] (pkW M A L) := fun n => by
  induction n with
  | zero =>
    intro c L hc c0 _ g
    unfold rgl at g
    rw [List.append_nil] at g
    rw [show c = M 92 (M 11 x) by omega]; exact g
  | succ n ih =>
    intro c L hc c0 hl g
    refine b_38_145 (Tr_mono _) hV hW _ _ _ _ _ ?_
    rw [pkW_r (r := 11) (by decide) (by decide), pkW_r (r := 92) (by decide) (by decide), pkW_r (r := 13) (by decide) (by decide), if_pos (by omega), w32_id (x := 16 * x) (by omega) (by omega), w32_id (x := 16 * x + c) (by omega) (by omega), w32_id (x := c + 1) (by omega) (by omega)]
    refine ⟨hx, hT, by omega, x_39 hA (by omega) _ _ (rv_i ?_)⟩
    refine ih (c + 1) _ (by omega) (by omega) (by rw [List.length_append, List.length_cons, List.length_nil]; omega) ?_
    unfold rgl at g
    rw [List.append_assoc]; exact g
/-- the queue -/
theorem x_199c [Inhabited fz_] {V : vv_} {Qr : qr_} {Qt : qt_} (hV : Cl_ wd0 (Tr_ wd0 pg0 1) V Qr Qt m_38) (hW : Wk_ V) (hx : 0 ≤ x ∧ x < 12) (hC : 0 ≤ M 14 x ∧ M 14 x ≤ 6) (hA : 0 ≤ A) :
    ∀ (n : Nat) (c : Int) (L : List Int), c + n = 5 * M 14 x → 0 ≤ c → A + L.length + n < 221100 → V 27 [rr 0, ii k, ii (x + 1), none, none] [] (pkW M A (L ++ rgl (fun c => M 15 (30 * x + c)) c n)) → V 199 [rr 0, ii k, ii x, ii on, ii c] [] (pkW M A L) := fun n => by
  induction n with
  | zero =>
    intro c L hc c0 _ g
    unfold rgl at g
    rw [List.append_nil] at g
    refine b_38_199 (Tr_mono _) hV hW _ _ _ _ _ ?_
    rw [pkW_r (r := 14) (by decide) (by decide), w32_id (x := 5 * M 14 x) (by omega) (by omega), if_neg (by omega), w32_id (x := x + 1) (by omega) (by omega)]
    exact ⟨hx, g⟩
  | succ n ih =>
    intro c L hc c0 hl g
    refine b_38_199 (Tr_mono _) hV hW _ _ _ _ _ ?_
    rw [pkW_r (r := 14) (by decide) (by decide), w32_id (x := 5 * M 14 x) (by omega) (by omega), if_pos (by omega)]
    refine ⟨hx, x_9 (a := 0) (by omega) (by decide) _ _ (ri_i ?_)⟩
    rw [show 30 * x + 5 * 0 + c = 30 * x + c by omega, w32_id (x := 30 * x + c) (by omega) (by omega), w32_id (x := c + 1) (by omega) (by omega), pkW_r (r := 15) (by decide) (by decide)]
    refine ⟨by omega, x_39 hA (by omega) _ _ (rv_i ?_)⟩
    refine ih (c + 1) _ (by omega) (by omega) (by rw [List.length_append, List.length_cons, List.length_nil]; omega) ?_
    unfold rgl at g
    rw [List.append_assoc]; exact g
theorem on_b [Inhabited fz_] : ∀ (a b c : Bool), or_ (or_ (or_ 0 (if a then sl_ 1 0 else 0)) (if b then sl_ 1 1 else 0)) (if c then sl_ 1 2 else 0) = (if a then 1 else 0) + (if b then 2 else 0) + (if c then 4 else 0) := by decide +kernel
/-- an instance -/
theorem x_27p [Inhabited fz_] {V : vv_} {Qr : qr_} {Qt : qt_} (hV : Cl_ wd0 (Tr_ wd0 pg0 1) V Qr Qt m_38) (hW : Wk_ V) (h : RU 1 M N) (hP : PLr M N) (hx : 0 ≤ x ∧ x < M 0 7) (hA : 0 ≤ A) (hl : A + L.length + 54 < 221100) (g : V 27 [rr 0, ii k, ii (x + 1), none, none] [] (pkW M A (L ++ slL N (N 239) (sB x)))) : V 27 [rr 0, ii k, ii x, none, none] [] (pkW M A L) := by
  have n12 := h.1.1
  obtain ⟨⟨i1, i2, i3, i4, i5, i6⟩, ⟨c1, c2, c3⟩, ⟨d1, d2⟩, e, ⟨q1, q2, q3⟩, q4, q5⟩ := h.1.2.2.1 x hx.1 hx.2
  have pt := PL_T hP c2
  have x12 : 0 ≤ x ∧ x < 12 := by omega
  refine b_38_27 (Tr_mono _) hV hW _ _ _ ?_
  rw [pkW_0 (by decide), if_pos hx.2]
  have len : ∀ (K : List Int) (v : Int), (K ++ [v]).length = K.length + 1 := fun K v => by rw [List.length_append]; rfl
  refine ⟨x12, x_39 hA (by omega) _ _ (rv_i ⟨x12, x_39 hA (by rw [len]; omega) _ _ (rv_i ⟨x12, x_39 hA (by rw [len, len]; omega) _ _ (rv_i ⟨x12, x_39 hA (by rw [len, len, len]; omega) _ _ (rv_i ⟨x12, x_39 hA (by rw [len, len, len, len]; omega) _ _ (rv_i ⟨x12, x_39 hA (by rw [len, len, len, len, len]; omega) _ _ (rv_i ?_)⟩)⟩)⟩)⟩)⟩)⟩
  rw [pkW_r (r := 10) (by decide) (by decide), pkW_r (r := 11) (by decide) (by decide), pkW_r (r := 12) (by decide) (by decide), pkW_r (r := 18) (by decide) (by decide), pkW_r (r := 19) (by decide) (by decide), pkW_r (r := 20) (by decide) (by decide), i1, i2, i3, i4, i5, i6]
  generalize hK : L ++ [N 239 (sB x)] ++ [N 239 (sB x + 1)] ++ [N 239 (sB x + 2)] ++ [N 239 (sB x + 3)] ++ [N 239 (sB x + 4)] ++ [N 239 (sB x + 5)] = K
  have lK : K.length = L.length + 6 := by rw [← hK]; simp only [List.length_append, List.length_cons, List.length_nil]
  have tm : ∀ t, 0 ≤ t → t < 3 → M 16 (3 * x + t) = (if 0 ≤ N 239 (sB x + 22 + t) then 1 else 0) := fun t t0 t1 => by
    rcases (e t t0 t1).1 with ⟨u1, u2, u3⟩ | ⟨u1, u2⟩
    · rw [if_pos (by omega)]; exact u1
    · rw [if_neg (by omega)]; exact u1
  have st : ∀ (o t : Int), 0 ≤ t → t < 3 → V 100 [rr 0, ii k, ii x, ii (or_ o (if 0 ≤ N 239 (sB x + 22 + t) then sl_ 1 t else 0)), ii (t + 1)] [] (pkW M A K) → V 100 [rr 0, ii k, ii x, ii o, ii t] [] (pkW M A K) := fun o t t0 t1 gg => by
    refine b_38_100 (Tr_mono _) hV hW _ _ _ _ _ ?_
    rw [if_pos t1, w32_id (x := 3 * x) (by omega) (by omega), w32_id (x := 3 * x + t) (by omega) (by omega), w32_id (x := t + 1) (by omega) (by omega), pkW_r (r := 16) (by decide) (by decide), tm t t0 t1]
    refine ⟨by omega, fun _ => ?_⟩
    by_cases c : 0 ≤ N 239 (sB x + 22 + t)
    · rw [if_pos c] at gg; rw [if_pos c, if_neg (by decide)]; exact gg
    · rw [if_neg c] at gg; rw [if_neg c, if_pos rfl]; exact gg
  refine st 0 0 (by decide) (by decide) (st _ (0 + 1) (by decide) (by decide) (st _ (0 + 1 + 1) (by decide) (by decide) ?_))
  have eo : or_ (or_ (or_ 0 (if 0 ≤ N 239 (sB x + 22 + 0) then sl_ 1 0 else 0)) (if 0 ≤ N 239 (sB x + 22 + (0 + 1)) then sl_ 1 (0 + 1) else 0)) (if 0 ≤ N 239 (sB x + 22 + (0 + 1 + 1)) then sl_ 1 (0 + 1 + 1) else 0) = onb (N 239) (sB x) := by
    have := on_b (decide (0 ≤ N 239 (sB x + 22))) (decide (0 ≤ N 239 (sB x + 22 + 1))) (decide (0 ≤ N 239 (sB x + 22 + 2)))
    simp only [decide_eq_true_eq] at this
    unfold onb
    rw [Int.add_zero]
    exact this
  rw [eo]
  refine b_38_100 (Tr_mono _) hV hW _ _ _ _ _ ?_
  rw [if_neg (by decide)]
  refine x_39 hA (by omega) _ _ (rv_i ?_)
  have eT : M 92 (M 11 x) = N 172 (N 239 (sB x + 1)) := by rw [pt.2.2.2.1.1, ← i2]
  refine x_145c hV hW x12 ⟨c2.1, by omega⟩ (by omega) hA (M 92 (M 11 x)).toNat 0 _ (by omega) (by decide) (by rw [len, lK]; omega) ?_
  refine b_38_145 (Tr_mono _) hV hW _ _ _ _ _ ?_
  rw [pkW_r (r := 11) (by decide) (by decide), pkW_r (r := 92) (by decide) (by decide), pkW_r (r := 14) (by decide) (by decide), if_neg (by omega)]
  have lC := rgl_len (g := fun c => M 13 (16 * x + c)) (M 92 (M 11 x)).toNat 0
  refine ⟨x12, ⟨c2.1, by omega⟩, x12, x_39 hA (by rw [List.length_append, len, lK, lC]; omega) _ _ (rv_i ?_)⟩
  refine x_199c hV hW x12 ⟨q1, q2⟩ hA (5 * M 14 x).toNat 0 _ (by omega) (by decide) (by rw [len, List.length_append, len, lK, lC]; omega) ?_
  have ef : L ++ slL N (N 239) (sB x) = K ++ [onb (N 239) (sB x)] ++ rgl (fun c => M 13 (16 * x + c)) 0 (M 92 (M 11 x)).toNat ++ [M 14 x] ++ rgl (fun c => M 15 (30 * x + c)) 0 (5 * M 14 x).toNat := by
    rw [← hK]
    unfold slL slT
    rw [← eT, q3, rgl_cg (f := fun c => M 13 (16 * x + c)) (g := fun c => N 239 (sB x + 6 + c)) _ _ (fun j j0 j1 => d1 j j0 (by omega)), rgl_cg (f := fun c => M 15 (30 * x + c)) (g := fun c => N 239 (sB x + 26 + c)) _ _ (fun j j0 j1 => q4 j j0 (by omega))]
    simp only [List.append_assoc, List.cons_append, List.nil_append]
  rw [← ef]; exact g
/-- an entry of a route -/
theorem x_279p [Inhabited fz_] {V : vv_} {Qr : qr_} {Qt : qt_} {r q : Int} (hV : Cl_ wd0 (Tr_ wd0 pg0 1) V Qr Qt m_38) (hW : Wk_ V) (hr : 0 ≤ r ∧ r < 10) (hq : 0 ≤ q ∧ q < 6) (hA : 0 ≤ A) (hl : A + L.length + 6 < 221100) (g : V 266 [rr 0, ii k, ii r, ii (q + 1), none] [] (pkW M A (L ++ [M 22 (42 * r + 7 * q + 0)] ++ [M 22 (42 * r + 7 * q + 1)] ++ [M 22 (42 * r + 7 * q + 2)] ++ [M 22 (42 * r + 7 * q + 4)] ++ [M 22 (42 * r + 7 * q + 5)] ++ [M 22 (42 * r + 7 * q + 6)]))) : V 279 [rr 0, ii k, ii r, ii q, ii 0] [] (pkW M A L) := by
  have len : ∀ (K : List Int) (v : Int), (K ++ [v]).length = K.length + 1 := fun K v => by rw [List.length_append]; rfl
  have one : ∀ (j : Int) (K : List Int), 0 ≤ j → j < 7 → j ≠ 3 → A + K.length < 221100 → V 279 [rr 0, ii k, ii r, ii q, ii (j + 1)] [] (pkW M A (K ++ [M 22 (42 * r + 7 * q + j)])) → V 279 [rr 0, ii k, ii r, ii q, ii j] [] (pkW M A K) := fun j K j0 j1 j3 hK gg => by
    refine b_38_279 (Tr_mono _) hV hW _ _ _ _ _ ?_
    rw [if_pos j1, if_neg j3]
    refine x_2 (by omega) (by omega) _ _ (ri_i ?_)
    rw [w32_id (x := 42 * r + 7 * q + j) (by omega) (by omega), w32_id (x := j + 1) (by omega) (by omega), pkW_r (r := 22) (by decide) (by decide)]
    exact ⟨by omega, x_39 hA hK _ _ (rv_i gg)⟩
  refine one 0 _ (by decide) (by decide) (by decide) (by omega) (one (0 + 1) _ (by decide) (by decide) (by decide) (by rw [len]; omega) (one (0 + 1 + 1) _ (by decide) (by decide) (by decide) (by rw [len, len]; omega) ?_))
  refine b_38_279 (Tr_mono _) hV hW _ _ _ _ _ ?_
  rw [if_pos (by decide), if_pos (by decide), w32_id (x := (0 : Int) + 1 + 1 + 1 + 1) (by decide) (by decide)]
  refine one (0 + 1 + 1 + 1 + 1) _ (by decide) (by decide) (by decide) (by rw [len, len, len]; omega) (one (0 + 1 + 1 + 1 + 1 + 1) _ (by decide) (by decide) (by decide) (by rw [len, len, len, len]; omega) (one (0 + 1 + 1 + 1 + 1 + 1 + 1) _ (by decide) (by decide) (by decide) (by rw [len, len, len, len, len]; omega) ?_))
  refine b_38_279 (Tr_mono _) hV hW _ _ _ _ _ ?_
  rw [if_neg (by decide), w32_id (x := q + 1) (by omega) (by omega)]
  exact g
theorem x_266p [Inhabited fz_] {V : vv_} {Qr : qr_} {Qt : qt_} {r : Int} (hV : Cl_ wd0 (Tr_ wd0 pg0 1) V Qr Qt m_38) (hW : Wk_ V) (h : RU 1 M N) (hr : 0 ≤ r ∧ r < N 6 18) (hA : 0 ≤ A) : ∀ (n : Nat) (q : Int) (L : List Int), q + n = M 21 r → 0 ≤ q → A + L.length + 6 * n < 221100 → V 243 [rr 0, ii k, ii (r + 1), none, none] [] (pkW M A (L ++ enL (N 239) (sR r) q n)) → V 266 [rr 0, ii k, ii r, ii q, none] [] (pkW M A L) := fun n => by
  have h10 := h.2.1.1
  obtain ⟨⟨c1, c2, c3⟩, d, _⟩ := h.2.1.2.1 r hr.1 hr.2
  induction n with
  | zero =>
    intro q L hq q0 _ g
    unfold enL at g
    rw [List.append_nil] at g
    refine b_38_266 (Tr_mono _) hV hW _ _ _ _ ?_
    rw [pkW_r (r := 21) (by decide) (by decide), if_neg (by omega), w32_id (x := r + 1) (by omega) (by omega)]
    exact ⟨by omega, g⟩
  | succ n ih =>
    intro q L hq q0 hl g
    refine b_38_266 (Tr_mono _) hV hW _ _ _ _ ?_
    rw [pkW_r (r := 21) (by decide) (by decide), if_pos (by omega)]
    refine ⟨by omega, x_279p hV hW (by omega) (by omega) hA (by omega) (ih (q + 1) _ (by omega) (by omega) (by simp only [List.length_append, List.length_cons, List.length_nil]; omega) ?_)⟩
    unfold enL at g
    have e := (d q q0 (by omega)).1
    rw [e 0 (by decide) (by decide) (by decide), e 1 (by decide) (by decide) (by decide), e 2 (by decide) (by decide) (by decide), e 4 (by decide) (by decide) (by decide), e 5 (by decide) (by decide) (by decide), e 6 (by decide) (by decide) (by decide)]
    simp only [List.append_assoc, List.cons_append, List.nil_append]
    exact g
theorem x_243p [Inhabited fz_] {V : vv_} {Qr : qr_} {Qt : qt_} (hV : Cl_ wd0 (Tr_ wd0 pg0 1) V Qr Qt m_38) (hW : Wk_ V) (h : RU 1 M N) (hP : PLr M N) (hA : 0 ≤ A) : ∀ (n : Nat) (r : Int) (L : List Int), r + n = N 6 18 → 0 ≤ r → A + L.length + 37 * n < 221100 → V 243 [rr 0, ii k, ii (N 6 18), none, none] [] (pkW M A (L ++ rosL (N 239) r n)) → V 243 [rr 0, ii k, ii r, none, none] [] (pkW M A L) := fun n => by
  have h10 := h.2.1.1
  have p1 := (PLr_93 hP).1
  induction n with
  | zero =>
    intro r L hr r0 _ g
    unfold rosL at g
    rw [List.append_nil] at g
    rw [show r = N 6 18 by omega]; exact g
  | succ n ih =>
    intro r L hr r0 hl g
    obtain ⟨⟨c1, c2, c3⟩, _⟩ := h.2.1.2.1 r r0 (by omega)
    refine b_38_243 (Tr_mono _) hV hW _ _ _ ?_
    rw [pkW_r (r := 4) (by decide) (by decide), pkW_r (r := 21) (by decide) (by decide), if_pos (by omega)]
    refine ⟨by omega, x_39 hA (by omega) _ _ (rv_i (x_266p hV hW h ⟨r0, by omega⟩ hA (M 21 r).toNat 0 _ (by omega) (by decide) (by rw [List.length_append, List.length_cons, List.length_nil]; omega) (ih (r + 1) _ (by omega) (by omega) (by simp only [List.length_append, List.length_cons, List.length_nil, enL_len]; omega) ?_)))⟩
    unfold rosL roL at g
    rw [c3] at g
    simp only [List.append_assoc, List.cons_append, List.nil_append] at g ⊢
    exact g
theorem x_27q [Inhabited fz_] {V : vv_} {Qr : qr_} {Qt : qt_} (hV : Cl_ wd0 (Tr_ wd0 pg0 1) V Qr Qt m_38) (hW : Wk_ V) (h : RU 1 M N) (hP : PLr M N) (hA : 0 ≤ A) : ∀ (n : Nat) (x : Int) (L : List Int), x + n = M 0 7 → 0 ≤ x → A + L.length + 54 * n < 221100 → V 27 [rr 0, ii k, ii (M 0 7), none, none] [] (pkW M A (L ++ slsL N (N 239) x n)) → V 27 [rr 0, ii k, ii x, none, none] [] (pkW M A L) := fun n => by
  have n12 := h.1.1
  have vr := VR_of h
  induction n with
  | zero =>
    intro x L hx x0 _ g
    unfold slsL at g
    rw [List.append_nil] at g
    rw [show x = M 0 7 by omega]; exact g
  | succ n ih =>
    intro x L hx x0 hl g
    have v := vr.2.1 x x0 (by omega)
    have pt := PL_T hP v.1.2.1
    have ll := slL_len (N := N) (f := N 239) (b := sB x) (by omega) v.2.2.2.1.2
    refine x_27p hV hW h hP ⟨x0, by omega⟩ hA (by omega) (ih (x + 1) _ (by omega) (by omega) (by rw [List.length_append]; omega) ?_)
    unfold slsL at g
    rw [List.append_assoc]; exact g
theorem hsL_a [Inhabited fz_] {K : List Int} : hsL (K ++ [v]) a = w32 (w32 (31 * hsL K a) + v) := by unfold hsL; rw [List.foldl_append]; rfl
theorem x_352 [Inhabited fz_] {V : vv_} {Qr : qr_} {Qt : qt_} {B : mm_} (hV : Cl_ wd0 (Tr_ wd0 pg0 1) V Qr Qt m_38) (hW : Wk_ V) (hk : 0 ≤ k ∧ k < 201) (hA : 0 ≤ A) (hl : A + L.length ≤ 221100) (h65 : B 0 65 = A + L.length) (h27 : ∀ (K K' : List Int) (u : Int), L = K ++ u :: K' → B 27 (A + K.length) = u) (g : Qr [] (up_ B 29 k (hshL L))) : ∀ (K' K : List Int), L = K ++ K' → V 352 [rr 0, ii k, ii (hsL K 17), ii (A + K.length), none] [] B := fun K' => by
  induction K' with
  | nil =>
    intro K hK
    rw [List.append_nil] at hK
    refine b_38_352 (Tr_mono _) hV hW _ _ _ _ ?_
    rw [h65, hK, if_neg (by omega)]
    refine ⟨hk, ?_⟩
    unfold hshL at g
    rw [hK] at g; exact g
  | cons u K' ih =>
    intro K hK
    refine b_38_352 (Tr_mono _) hV hW _ _ _ _ ?_
    have hlen : L.length = K.length + (K'.length + 1) := by rw [hK, List.length_append, List.length_cons]
    rw [h65, if_pos (by omega), h27 K K' u hK, w32_id (x := A + K.length + 1) (by omega) (by omega)]
    have := ih (K ++ [u]) (by rw [hK, List.append_assoc]; rfl)
    rw [hsL_a, List.length_append, List.length_cons, List.length_nil] at this
    rw [show A + (K.length : Int) + 1 = A + ((K.length + (0 + 1) : Nat) : Int) by omega]
    exact ⟨by omega, this⟩
theorem lwf_at [Inhabited fz_] {f : Int → Int} {K K' : List Int} {u : Int} (h : L = K ++ u :: K') : lwf f a L (a + K.length) = u := by
  unfold lwf
  have hlen : L.length = K.length + (K'.length + 1) := by rw [h, List.length_append, List.length_cons]
  rw [if_pos (by omega), show (a + (K.length : Int) - a).toNat = K.length by omega, h]
  simp
/-- packing -/
theorem x_38 [Inhabited fz_] (h : RU 1 M N) (hP : PLr M N) (hk : 0 ≤ k ∧ k < 201) : Ex_ 2 38 [.inr (.inr 0), .inl k] M [] (pakX M k (pkL N (N 239))) := fun Qr Qt g => t_38 fun V hV hW => b_38_0 (Tr_mono _) hV hW _ _ (by
  have n12 := h.1.1
  have h10 := h.2.1.1
  have p1 := (PLr_93 hP).1
  have vr := VR_of h
  have e0 : up_ M 0 65 (w32 (1100 * k)) = pkW M (1100 * k) [] := by
    unfold pkW
    have el : lwf (M 27) (1100 * k) [] = M 27 := by funext i; unfold lwf; rw [if_neg (by simp only [List.length_nil]; omega)]
    rw [el, wr_id, w32_id (x := 1100 * k) (by omega) (by omega)]
    simp
  rw [e0]
  have len : ∀ (K : List Int) (v : Int), (K ++ [v]).length = K.length + 1 := fun K v => by rw [List.length_append]; rfl
  refine x_39 (by omega) (by rw [List.length_nil]; omega) _ _ (rv_i (x_39 (by omega) (by rw [len, List.length_nil]; omega) _ _ (rv_i ?_)))
  rw [pkW_0 (by decide)]
  refine x_27q hV hW h hP (by omega) (M 0 7).toNat 0 _ (by omega) (by decide) (by rw [len, len, List.length_nil]; omega) ?_
  refine b_38_27 (Tr_mono _) hV hW _ _ _ ?_
  rw [pkW_0 (by decide), if_neg (by omega)]
  have ll := slsL_len (N := N) (f := N 239) (M 0 7).toNat 0 (fun j j0 j1 => by
    have v := vr.2.1 j j0 (by omega)
    have pt := PL_T hP v.1.2.1
    exact ⟨by omega, v.2.2.2.1.2⟩)
  refine x_243p hV hW h hP (by omega) (N 6 18).toNat 0 _ (by omega) (by decide) (by rw [List.length_append, len, len, List.length_nil]; omega) ?_
  have eL : [] ++ [M 0 7] ++ [M 0 8] ++ slsL N (N 239) 0 (M 0 7).toNat ++ rosL (N 239) 0 (N 6 18).toNat = pkL N (N 239) := by
    unfold pkL
    rw [n12.2.2, ← h.1.2.1.1]
    simp only [List.append_assoc, List.cons_append, List.nil_append]
  rw [eL]
  have lr := rosL_len (f := N 239) (N 6 18).toNat 0 (fun j j0 j1 => (vr.2.2.2.1 j j0 (by omega)).1.2)
  have lp : (pkL N (N 239)).length ≤ 1020 := by
    rw [← eL]; simp only [List.length_append, List.length_cons, List.length_nil]; omega
  generalize hL : pkL N (N 239) = K at *
  refine b_38_243 (Tr_mono _) hV hW _ _ _ ?_
  rw [pkW_r (r := 4) (by decide) (by decide), if_neg (by omega), pkW_65, w32_id (x := 1100 * k) (by omega) (by omega), show 1100 * k + (K.length : Int) - 1100 * k = K.length by omega, w32_id (x := (K.length : Int)) (by omega) (by omega)]
  refine ⟨hk, ?_⟩
  have := x_352 (B := up_ (pkW M (1100 * k) K) 28 k K.length) hV hW hk (A := 1100 * k) (L := K) (by omega) (by omega) (by rw [up_ne (by decide), pkW_65]) (fun K1 K2 u hu => by rw [up_ne (by decide)]; unfold pkW; rw [up_ne (by decide), wr_same]; exact lwf_at hu) g K [] rfl
  rw [List.length_nil] at this
  simp only [Int.natCast_zero, Int.add_zero] at this
  exact this)
end PXa
end T398_pa
section T399_un
/-! the search: X unpacks (X 41, 42) -/
def RDL (h : Int → Int) : Int → List Int → Prop
  | _, [] => True
  | a, v :: L => h a = v ∧ RDL h (a + 1) L
/-- what unpacking may change -/
def UF (M B : mm_) : Prop := (∀ r : Nat, r ∉ [0, 10, 11, 12, 13, 14, 15, 16, 17, 18, 19, 20, 21, 22] → B r = M r) ∧ ∀ i : Int, i ∉ [7, 8, 65] → B 0 i = M 0 i
/-- .. of one instance -/
def SLX (x : Int) (M B : mm_) : Prop := (∀ r : Nat, r ∉ [0, 10, 11, 12, 13, 14, 15, 16, 17, 18, 19, 20] → B r = M r) ∧ (∀ i : Int, i ≠ 65 → B 0 i = M 0 i) ∧ (∀ q : Nat, q ∈ [10, 11, 12, 14, 18, 19, 20] → ∀ i, i ≠ x → B q i = M q i) ∧ (∀ i, i < 16 * x ∨ 16 * x + 16 ≤ i → B 13 i = M 13 i) ∧ (∀ i, i < 30 * x ∨ 30 * x + 30 ≤ i → B 15 i = M 15 i) ∧ (∀ i, i < 3 * x ∨ 3 * x + 3 ≤ i → B 16 i = M 16 i ∧ B 17 i = M 17 i)
/-- an instance as it is packed -/
def SLD (B : mm_) (f : Int → Int) (k : Int) : Prop := (B 10 k = f (sB k) ∧ B 11 k = f (sB k + 1) ∧ B 12 k = f (sB k + 2) ∧ B 18 k = f (sB k + 3) ∧ B 19 k = f (sB k + 4) ∧ B 20 k = f (sB k + 5)) ∧ (∀ i, 0 ≤ i → i < 16 → B 13 (16 * k + i) = f (sB k + 6 + i)) ∧ (∀ t, 0 ≤ t → t < 3 → B 16 (3 * k + t) = (if 0 ≤ f (sB k + 22 + t) then 1 else 0) ∧ B 17 (3 * k + t) = B 0 9) ∧ B 14 k = f (sB k + 25) ∧ ∀ i, 0 ≤ i → i < 5 * f (sB k + 25) → B 15 (30 * k + i) = f (sB k + 26 + i)
section UNa
variable {M N B B' B1 : mm_} {f g h : Int → Int} {a k x v A b : Int} {L K : List Int}
theorem RDL_app [Inhabited fz_] : ∀ (K : List Int) (a : Int), RDL h a (K ++ L) → RDL h a K ∧ RDL h (a + K.length) L
  | [], a, hr => ⟨trivial, by rw [List.length_nil]; simpa using hr⟩
  | v :: K, a, hr => by
    obtain ⟨h1, h2⟩ := hr
    obtain ⟨h3, h4⟩ := RDL_app K (a + 1) h2
    refine ⟨⟨h1, h3⟩, ?_⟩
    rw [List.length_cons, show a + ((K.length + 1 : Nat) : Int) = a + 1 + K.length by omega]; exact h4
theorem RDL_rg [Inhabited fz_] : ∀ (n : Nat) (i a : Int), RDL h a (rgl g i n) → ∀ j, i ≤ j → j < i + n → h (a + (j - i)) = g j
  | 0, i, a, _, j, h0, h1 => by omega
  | n + 1, i, a, hr, j, h0, h1 => by
    obtain ⟨c1, c2⟩ := hr
    by_cases c : j = i
    · rw [c, Int.sub_self, Int.add_zero]; exact c1
    · have := RDL_rg n (i + 1) (a + 1) c2 j (by omega) (by omega)
      rw [show a + 1 + (j - (i + 1)) = a + (j - i) by omega] at this; exact this
theorem RDL_en [Inhabited fz_] : ∀ (n : Nat) (q a : Int), RDL h a (enL f b q n) → ∀ j, q ≤ j → j < q + n → h (a + 6 * (j - q)) = f (b + 1 + 7 * j + 0) ∧ h (a + 6 * (j - q) + 1) = f (b + 1 + 7 * j + 1) ∧ h (a + 6 * (j - q) + 2) = f (b + 1 + 7 * j + 2) ∧ h (a + 6 * (j - q) + 3) = f (b + 1 + 7 * j + 4) ∧ h (a + 6 * (j - q) + 4) = f (b + 1 + 7 * j + 5) ∧ h (a + 6 * (j - q) + 5) = f (b + 1 + 7 * j + 6)
  | 0, q, a, _, j, h0, h1 => by omega
  | n + 1, q, a, hr, j, h0, h1 => by
    obtain ⟨c1, c2, c3, c4, c5, c6, c7⟩ := hr
    by_cases c : j = q
    · subst c
      rw [Int.sub_self, show a + 6 * 0 = a by omega]
      exact ⟨c1, c2, by rw [show a + 2 = a + 1 + 1 by omega]; exact c3, by rw [show a + 3 = a + 1 + 1 + 1 by omega]; exact c4, by rw [show a + 4 = a + 1 + 1 + 1 + 1 by omega]; exact c5, by rw [show a + 5 = a + 1 + 1 + 1 + 1 + 1 by omega]; exact c6⟩
    · have := RDL_en n (q + 1) (a + 1 + 1 + 1 + 1 + 1 + 1) c7 j (by omega) (by omega)
      rw [show a + 1 + 1 + 1 + 1 + 1 + 1 + 6 * (j - (q + 1)) = a + 6 * (j - q) by omega] at this; exact this
theorem RDL_c [Inhabited fz_] : ∀ (L : List Int) (a : Int), RDL h a L → (∀ i, a ≤ i → i < a + L.length → g i = h i) → RDL g a L
  | [], _, _, _ => trivial
  | v :: L, a, hr, e => by
    rw [List.length_cons] at e
    exact ⟨by rw [e a (Int.le_refl _) (by omega)]; exact hr.1, RDL_c L (a + 1) hr.2 (fun i i0 i1 => e i (by omega) (by omega))⟩
theorem RDL_lw [Inhabited fz_] : ∀ (L K : List Int), RDL (lwf f a (K ++ L)) (a + K.length) L
  | [], _ => trivial
  | v :: L, K => by
    refine ⟨lwf_at rfl, ?_⟩
    have := RDL_lw L (K ++ [v])
    rw [List.append_assoc, List.length_append, List.length_cons, List.length_nil] at this
    rw [show a + (K.length : Int) + 1 = a + ((K.length + (0 + 1) : Nat) : Int) by omega]; exact this
/-- one list is told by what is read -/
theorem RDL_eq [Inhabited fz_] : ∀ (K L : List Int) (a c : Int), RDL h a K → RDL h c L → K.length = L.length → (∀ i : Int, 0 ≤ i → i < K.length → h (a + i) = h (c + i)) → K = L
  | [], [], _, _, _, _, _, _ => rfl
  | [], _ :: _, _, _, _, _, e, _ => by simp at e
  | _ :: _, [], _, _, _, _, e, _ => by simp at e
  | u :: K, v :: L, a, c, h1, h2, e, hi => by
    rw [List.length_cons] at hi
    have e0 := hi 0 (by decide) (by omega)
    rw [Int.add_zero, Int.add_zero, h1.1, h2.1] at e0
    rw [e0, RDL_eq K L (a + 1) (c + 1) h1.2 h2.2 (by simpa using e) (fun i i0 i1 => by have := hi (i + 1) (by omega) (by omega); rw [show a + 1 + i = a + (i + 1) by omega, show c + 1 + i = c + (i + 1) by omega]; exact this)]
theorem RDL_ev [Inhabited fz_] : ∀ (L : List Int) (a c : Int), RDL h a L → RDL h c L → ∀ i : Int, 0 ≤ i → i < L.length → h (a + i) = h (c + i)
  | [], _, _, _, _, i, i0, i1 => by rw [List.length_nil] at i1; omega
  | v :: L, a, c, h1, h2, i, i0, i1 => by
    rw [List.length_cons] at i1
    by_cases e : i = 0
    · rw [e, Int.add_zero, Int.add_zero, h1.1, h2.1]
    · have := RDL_ev L (a + 1) (c + 1) h1.2 h2.2 (i - 1) (by omega) (by omega)
      rw [show a + 1 + (i - 1) = a + i by omega, show c + 1 + (i - 1) = c + i by omega] at this; exact this
theorem x_42 [Inhabited fz_] (h0 : 0 ≤ a ∧ a < 221100) (h65 : B 0 65 = a) : Ex_ 1 42 [.inr (.inr 0)] B [.inl (B 27 a)] (up_ B 0 65 (a + 1)) := fun Qr Qt g => t_42 fun V hV hW => b_42_0 (Tr_mono _) hV hW _ (by
  rw [h65, w32_id (x := a + 1) (by omega) (by omega), show a + 1 - 1 = a by omega, w32_id (x := a) (by omega) (by omega)]
  exact ⟨h0, g⟩)
theorem UF_rf [Inhabited fz_] : UF M M := ⟨fun _ _ => rfl, fun _ _ => rfl⟩
theorem UF_tr [Inhabited fz_] (h : UF M B1) (g : UF B1 B) : UF M B := ⟨fun r hr => (g.1 r hr).trans (h.1 r hr), fun i hi => (g.2 i hi).trans (h.2 i hi)⟩
theorem UF_up [Inhabited fz_] {q : Nat} {i v : Int} (h : q ∈ [10, 11, 12, 13, 14, 15, 16, 17, 18, 19, 20, 21, 22]) : UF M (up_ M q i v) := ⟨fun r hr => up_ne (fun e => hr (by rw [e]; exact List.mem_cons_of_mem _ h)), fun j _ => by rw [up_ne (fun e => by rw [← e] at h; revert h; decide)]⟩
theorem UF_0 [Inhabited fz_] {i v : Int} (h : i ∈ [7, 8, 65]) : UF M (up_ M 0 i v) := ⟨fun r hr => up_ne (fun e => hr (by rw [e]; decide)), fun j hj => upo (fun e => hj (by rw [e]; exact h))⟩
theorem SLX_u [Inhabited fz_] (h : SLX x M B) : UF M B := ⟨fun r hr => h.1 r (fun e => hr (by simp only [List.mem_cons, List.not_mem_nil, or_false] at e ⊢; omega)), fun i hi => h.2.1 i (fun e => hi (by rw [e]; decide))⟩
theorem SLX_tr [Inhabited fz_] (h : SLX x M B1) (g : SLX x B1 B) : SLX x M B := ⟨fun r hr => (g.1 r hr).trans (h.1 r hr), fun i hi => (g.2.1 i hi).trans (h.2.1 i hi), fun q hq i hi => (g.2.2.1 q hq i hi).trans (h.2.2.1 q hq i hi), fun i hi => (g.2.2.2.1 i hi).trans (h.2.2.2.1 i hi), fun i hi => (g.2.2.2.2.1 i hi).trans (h.2.2.2.2.1 i hi), fun i hi => ⟨(g.2.2.2.2.2 i hi).1.trans (h.2.2.2.2.2 i hi).1, (g.2.2.2.2.2 i hi).2.trans (h.2.2.2.2.2 i hi).2⟩⟩
theorem on_t [Inhabited fz_] : ∀ (a b c : Bool), (an_ (sr_ ((if a then 1 else 0) + (if b then 2 else 0) + (if c then 4 else 0)) 0) 1 = 0 ↔ a = false) ∧ (an_ (sr_ ((if a then 1 else 0) + (if b then 2 else 0) + (if c then 4 else 0)) 1) 1 = 0 ↔ b = false) ∧ (an_ (sr_ ((if a then 1 else 0) + (if b then 2 else 0) + (if c then 4 else 0)) 2) 1 = 0 ↔ c = false) := by decide +kernel
theorem onb_t [Inhabited fz_] {t : Int} (h0 : 0 ≤ t) (h1 : t < 3) : an_ (sr_ (onb f b) t) 1 = 0 ↔ ¬ 0 ≤ f (b + 22 + t) := by
  have := on_t (decide (0 ≤ f (b + 22))) (decide (0 ≤ f (b + 22 + 1))) (decide (0 ≤ f (b + 22 + 2)))
  simp only [decide_eq_true_eq, decide_eq_false_iff_not] at this
  unfold onb
  rcases (by omega : t = 0 ∨ t = 1 ∨ t = 2) with e | e | e
  · subst e; rw [Int.add_zero]; exact this.1
  · subst e; exact this.2.1
  · subst e; exact this.2.2
/-- cells -/
theorem u_158 [Inhabited fz_] {k o C a0 : Int} (hx : 0 ≤ x ∧ x < 12) (hT : 0 ≤ B 11 x ∧ B 11 x < 6) (hC : B 92 (B 11 x) = C) (hC2 : 0 ≤ C ∧ C ≤ 16) (ha : 0 ≤ a0 ∧ a0 + 16 < 221100) (g : Int → Int) (hr : ∀ j, 0 ≤ j → j < C → B 27 (a0 + j) = g j) (hz : ∀ j, C ≤ j → j < 16 → g j = 0) : ∀ (n : Nat) (c : Int) (A : mm_), c + n = 16 → 0 ≤ c → (∀ r : Nat, r ≠ 0 → r ≠ 13 → A r = B r) → (A 0 65 = if c < C then a0 + c else a0 + C) →
    ∃ A', RC 1 m_41 158 [rr 0, ii k, ii x, ii o, ii c] A 158 [rr 0, ii k, ii x, ii o, ii 16] A' ∧ (∀ r : Nat, r ≠ 0 → r ≠ 13 → A' r = B r) ∧ (∀ i : Int, i ≠ 65 → A' 0 i = A 0 i) ∧ (∀ i, i < 16 * x + c ∨ 16 * x + 16 ≤ i → A' 13 i = A 13 i) ∧ (∀ j, c ≤ j → j < 16 → A' 13 (16 * x + j) = g j) ∧ A' 0 65 = a0 + C := fun n => by
  induction n with
  | zero =>
    intro c A hc c0 hA h65
    have e : c = 16 := by omega
    subst e
    exact ⟨A, RC_rf, hA, fun _ _ => rfl, fun _ _ => rfl, fun j j0 j1 => by omega, by rw [h65, if_neg (by omega)]⟩
  | succ n ih =>
    intro c A hc c0 hA h65
    have w16 : w32 (w32 (16 * x) + c) = 16 * x + c := by rw [w32_id (x := 16 * x) (by omega) (by omega), w32_id (by omega) (by omega)]
    have wc : w32 (c + 1) = c + 1 := w32_id (by omega) (by omega)
    by_cases cc : c < C
    · rw [if_pos cc] at h65
      have rd := hr c c0 cc
      generalize hA1 : up_ (up_ A 0 65 (a0 + c + 1)) 13 (16 * x + c) (g c) = A1
      have a13 : A1 13 (16 * x + c) = g c := by rw [← hA1, up_at]
      obtain ⟨A', r1, r2, r3, r4, r5, r6⟩ := ih (c + 1) A1 (by omega) (by omega) (fun r h1 h2 => by rw [← hA1, up_ne h2, up_ne h1]; exact hA r h1 h2) (by
        rw [← hA1, up_ne (by decide), up_at]
        by_cases c2 : c + 1 < C
        · rw [if_pos c2]; omega
        · rw [if_neg c2]; omega)
      refine ⟨A', RC_tr (fun V Qr Qt hV hW gg => b_41_158 (Tr_mono _) hV hW _ _ _ _ _ ?_) r1, r2, fun i hi => by rw [r3 i hi, ← hA1, up_ne (by decide), upo hi], fun i hi => by rw [r4 i (by omega), ← hA1, upo (by omega), up_ne (by decide)], fun j j0 j1 => ?_, r6⟩
      · rw [if_pos (by omega), hA 11 (by decide) (by decide), hA 92 (by decide) (by decide), hC, if_pos cc, w16, wc]
        refine ⟨hx, hT, x_42 (by omega) h65 _ _ (ri_i ⟨by omega, ?_⟩)⟩
        rw [hA 27 (by decide) (by decide), rd, hA1]; exact gg
      · by_cases e : j = c
        · rw [e, r4 (16 * x + c) (by omega)]; exact a13
        · exact r5 j (by omega) j1
    · rw [if_neg cc] at h65
      generalize hA1 : up_ A 13 (16 * x + c) 0 = A1
      have a13 : A1 13 (16 * x + c) = g c := by rw [← hA1, up_at, hz c (by omega) (by omega)]
      obtain ⟨A', r1, r2, r3, r4, r5, r6⟩ := ih (c + 1) A1 (by omega) (by omega) (fun r h1 h2 => by rw [← hA1, up_ne h2]; exact hA r h1 h2) (by rw [← hA1, up_ne (by decide), if_neg (by omega)]; exact h65)
      refine ⟨A', RC_tr (fun V Qr Qt hV hW gg => b_41_158 (Tr_mono _) hV hW _ _ _ _ _ ?_) r1, r2, fun i hi => by rw [r3 i hi, ← hA1, up_ne (by decide)], fun i hi => by rw [r4 i (by omega), ← hA1, upo (by omega)], fun j j0 j1 => ?_, r6⟩
      · rw [if_pos (by omega), hA 11 (by decide) (by decide), hA 92 (by decide) (by decide), hC, if_neg cc, w16, wc, hA1]
        exact ⟨hx, hT, by omega, gg⟩
      · by_cases e : j = c
        · rw [e, r4 (16 * x + c) (by omega)]; exact a13
        · exact r5 j (by omega) j1
/-- the queue -/
theorem u_223 [Inhabited fz_] {k o C a0 : Int} (hx : 0 ≤ x ∧ x < 12) (hC : B 14 x = C) (hC2 : 0 ≤ C ∧ C ≤ 6) (ha : 0 ≤ a0 ∧ a0 + 30 < 221100) (g : Int → Int) (hr : ∀ j, 0 ≤ j → j < 5 * C → B 27 (a0 + j) = g j) : ∀ (n : Nat) (c : Int) (A : mm_), c + n = 5 * C → 0 ≤ c → (∀ r : Nat, r ≠ 0 → r ≠ 15 → A r = B r) → A 0 65 = a0 + c →
    ∃ A', RC 1 m_41 223 [rr 0, ii k, ii x, ii o, ii c] A 27 [rr 0, ii k, ii (x + 1), none, none] A' ∧ (∀ r : Nat, r ≠ 0 → r ≠ 15 → A' r = B r) ∧ (∀ i : Int, i ≠ 65 → A' 0 i = A 0 i) ∧ (∀ i, i < 30 * x + c ∨ 30 * x + 30 ≤ i → A' 15 i = A 15 i) ∧ (∀ j, c ≤ j → j < 5 * C → A' 15 (30 * x + j) = g j) ∧ A' 0 65 = a0 + 5 * C := fun n => by
  induction n with
  | zero =>
    intro c A hc c0 hA h65
    refine ⟨A, fun V Qr Qt hV hW gg => b_41_223 (Tr_mono _) hV hW _ _ _ _ _ ?_, hA, fun _ _ => rfl, fun _ _ => rfl, fun j j0 j1 => by omega, by omega⟩
    rw [hA 14 (by decide) (by decide), hC, w32_id (x := 5 * C) (by omega) (by omega), if_neg (by omega), w32_id (x := x + 1) (by omega) (by omega)]
    exact ⟨hx, gg⟩
  | succ n ih =>
    intro c A hc c0 hA h65
    have rd := hr c c0 (by omega)
    generalize hA1 : up_ (up_ A 0 65 (a0 + c + 1)) 15 (30 * x + c) (g c) = A1
    have a15 : A1 15 (30 * x + c) = g c := by rw [← hA1, up_at]
    obtain ⟨A', r1, r2, r3, r4, r5, r6⟩ := ih (c + 1) A1 (by omega) (by omega) (fun r h1 h2 => by rw [← hA1, up_ne h2, up_ne h1]; exact hA r h1 h2) (by rw [← hA1, up_ne (by decide), up_at]; omega)
    refine ⟨A', RC_tr (fun V Qr Qt hV hW gg => b_41_223 (Tr_mono _) hV hW _ _ _ _ _ ?_) r1, r2, fun i hi => by rw [r3 i hi, ← hA1, up_ne (by decide), upo hi], fun i hi => by rw [r4 i (by omega), ← hA1, upo (by omega), up_ne (by decide)], fun j j0 j1 => ?_, r6⟩
    · rw [hA 14 (by decide) (by decide), hC, w32_id (x := 5 * C) (by omega) (by omega), if_pos (by omega)]
      refine ⟨hx, x_9 (a := 0) hx (by decide) _ _ (ri_i (x_42 (by omega) h65 _ _ (ri_i ?_)))⟩
      rw [show 30 * x + 5 * 0 + c = 30 * x + c by omega, w32_id (x := 30 * x + c) (by omega) (by omega), w32_id (x := c + 1) (by omega) (by omega), hA 27 (by decide) (by decide), rd, hA1]
      exact ⟨by omega, gg⟩
    · by_cases e : j = c
      · rw [e, r4 (30 * x + c) (by omega)]; exact a15
      · exact r5 j (by omega) j1
end UNa
end T399_un
section T400_ul
/-! the search: X unpacks (X 41 | Q 386) -/
def stp (B : mm_) (q : Nat) (x v a : Int) : mm_ := up_ (up_ B 0 65 a) q x v
def s6X (B : mm_) (x a v1 v2 v3 v4 v5 v6 : Int) : mm_ := up_ (stp (stp (stp (stp (stp (stp B 10 x v1 (a + 1)) 11 x v2 (a + 2)) 12 x v3 (a + 3)) 18 x v4 (a + 4)) 19 x v5 (a + 5)) 20 x v6 (a + 6)) 0 65 (a + 7)
def s3X (B : mm_) (x s0 s1 s2 : Int) : mm_ := up_ (up_ (up_ (up_ (up_ (up_ B 16 (3 * x + 0) s0) 17 (3 * x + 0) (B 0 9)) 16 (3 * x + 1) s1) 17 (3 * x + 1) (B 0 9)) 16 (3 * x + 2) s2) 17 (3 * x + 2) (B 0 9)
section ULa
variable {M N B B' B1 : mm_} {f g h : Int → Int} {a k x v A b v1 v2 v3 v4 v5 v6 s0 s1 s2 : Int} {L K : List Int}
theorem stp_27 [Inhabited fz_] {q : Nat} (hq : q ≠ 27) : stp B q x v a 27 = B 27 := by unfold stp; rw [up_ne (fun e => hq e.symm), up_ne (by decide)]
theorem stp_65 [Inhabited fz_] {q : Nat} (hq : q ≠ 0) : stp B q x v a 0 65 = a := by unfold stp; rw [up_ne (fun e => hq e.symm), up_at]
theorem s6X_r [Inhabited fz_] {r : Nat} (h : r ∉ [0, 10, 11, 12, 18, 19, 20]) : s6X B x a v1 v2 v3 v4 v5 v6 r = B r := by
  have e : ∀ q : Nat, q ∈ [0, 10, 11, 12, 18, 19, 20] → r ≠ q := fun q hq e => h (by rw [e]; exact hq)
  unfold s6X stp
  rw [up_ne (e 0 (by decide)), up_ne (e 20 (by decide)), up_ne (e 0 (by decide)), up_ne (e 19 (by decide)), up_ne (e 0 (by decide)), up_ne (e 18 (by decide)), up_ne (e 0 (by decide)), up_ne (e 12 (by decide)), up_ne (e 0 (by decide)), up_ne (e 11 (by decide)), up_ne (e 0 (by decide)), up_ne (e 10 (by decide)), up_ne (e 0 (by decide))]
theorem s6X_0 [Inhabited fz_] {i : Int} (h : i ≠ 65) : s6X B x a v1 v2 v3 v4 v5 v6 0 i = B 0 i := by
  unfold s6X stp
  rw [upo h, up_ne (by decide), upo h, up_ne (by decide), upo h, up_ne (by decide), upo h, up_ne (by decide), upo h, up_ne (by decide), upo h, up_ne (by decide), upo h]
theorem s6X_65 [Inhabited fz_] : s6X B x a v1 v2 v3 v4 v5 v6 0 65 = a + 7 := by unfold s6X; rw [up_at]
theorem s6X_v [Inhabited fz_] : s6X B x a v1 v2 v3 v4 v5 v6 10 x = v1 ∧ s6X B x a v1 v2 v3 v4 v5 v6 11 x = v2 ∧ s6X B x a v1 v2 v3 v4 v5 v6 12 x = v3 ∧ s6X B x a v1 v2 v3 v4 v5 v6 18 x = v4 ∧ s6X B x a v1 v2 v3 v4 v5 v6 19 x = v5 ∧ s6X B x a v1 v2 v3 v4 v5 v6 20 x = v6 := by
  unfold s6X stp
  refine ⟨?_, ?_, ?_, ?_, ?_, ?_⟩
  · rw [up_ne (by decide), up_ne (by decide), up_ne (by decide), up_ne (by decide), up_ne (by decide), up_ne (by decide), up_ne (by decide), up_ne (by decide), up_ne (by decide), up_ne (by decide), up_ne (by decide), up_at]
  · rw [up_ne (by decide), up_ne (by decide), up_ne (by decide), up_ne (by decide), up_ne (by decide), up_ne (by decide), up_ne (by decide), up_ne (by decide), up_ne (by decide), up_at]
  · rw [up_ne (by decide), up_ne (by decide), up_ne (by decide), up_ne (by decide), up_ne (by decide), up_ne (by decide), up_ne (by decide), up_at]
  · rw [up_ne (by decide), up_ne (by decide), up_ne (by decide), up_ne (by decide), up_ne (by decide), up_at]
  · rw [up_ne (by decide), up_ne (by decide), up_ne (by decide), up_at]
  · rw [up_ne (by decide), up_at]
theorem up_o2 [Inhabited fz_] {D : mm_} {q' q : Nat} {i : Int} (hi : i ≠ x) : up_ D q' x v q i = D q i := by
  by_cases c : q = q'
  · subst c; exact upo hi
  · rw [up_ne c]
theorem s6X_o [Inhabited fz_] {q : Nat} {i : Int} (hq : q ≠ 0) (hi : i ≠ x) : s6X B x a v1 v2 v3 v4 v5 v6 q i = B q i := by
  unfold s6X stp
  rw [up_ne hq, up_o2 hi, up_ne hq, up_o2 hi, up_ne hq, up_o2 hi, up_ne hq, up_o2 hi, up_ne hq, up_o2 hi, up_ne hq, up_o2 hi, up_ne hq]
theorem s3X_r [Inhabited fz_] {r : Nat} (h : r ≠ 16) (h' : r ≠ 17) : s3X B x s0 s1 s2 r = B r := by unfold s3X; simp only [up_ne h, up_ne h']
theorem s3X_v [Inhabited fz_] : ∀ t, 0 ≤ t → t < 3 → s3X B x s0 s1 s2 16 (3 * x + t) = (if t = 0 then s0 else if t = 1 then s1 else s2) ∧ s3X B x s0 s1 s2 17 (3 * x + t) = B 0 9 := fun t t0 t1 => by
  rcases (by omega : t = 0 ∨ t = 1 ∨ t = 2) with e | e | e
  · subst e; unfold s3X
    refine ⟨?_, ?_⟩
    · rw [up_ne (by decide), upo (by omega), up_ne (by decide), upo (by omega), up_ne (by decide), up_at, if_pos rfl]
    · rw [upo (by omega), up_ne (by decide), upo (by omega), up_ne (by decide), up_at]
  · subst e; unfold s3X
    refine ⟨?_, ?_⟩
    · rw [up_ne (by decide), upo (by omega), up_ne (by decide), up_at, if_neg (by decide), if_pos rfl]
    · rw [upo (by omega), up_ne (by decide), up_at]
  · subst e; unfold s3X
    refine ⟨?_, ?_⟩
    · rw [up_ne (by decide), up_at, if_neg (by decide), if_neg (by decide)]
    · rw [up_at]
theorem s3X_o [Inhabited fz_] {i : Int} (h : i < 3 * x ∨ 3 * x + 3 ≤ i) : s3X B x s0 s1 s2 16 i = B 16 i ∧ s3X B x s0 s1 s2 17 i = B 17 i := by
  unfold s3X
  refine ⟨?_, ?_⟩
  · rw [up_ne (by decide), upo (by omega), up_ne (by decide), upo (by omega), up_ne (by decide), upo (by omega)]
  · rw [upo (by omega), up_ne (by decide), upo (by omega), up_ne (by decide), upo (by omega), up_ne (by decide)]
/-- an instance -/
theorem u_27 [Inhabited fz_] (hx : 0 ≤ x ∧ x < B 0 7) (hn : B 0 7 ≤ 12) (ha : 0 ≤ a ∧ a + 60 < 221100) (h65 : B 0 65 = a) (hv : VSL N f (sB x)) (hT : 0 ≤ f (sB x + 1) ∧ f (sB x + 1) < 6) (h92 : B 92 (f (sB x + 1)) = N 172 (f (sB x + 1))) (h16 : 0 ≤ N 172 (f (sB x + 1)) ∧ N 172 (f (sB x + 1)) ≤ 16) (hr : RDL (B 27) a (slL N f (sB x))) : ∃ B', RC 1 m_41 27 [rr 0, ii k, ii x, none, none] B 27 [rr 0, ii k, ii (x + 1), none, none] B' ∧ SLX x B B' ∧ SLD B' f x ∧ B' 0 65 = a + (slL N f (sB x)).length := by
  generalize hb : sB x = b at *
  have x12 : 0 ≤ x ∧ x < 12 := by omega
  unfold slL slT at hr
  obtain ⟨r0, r1, r2, r3, r4, r5, r6, hr⟩ := hr
  have a7 : a + 1 + 1 + 1 + 1 + 1 + 1 + 1 = a + 7 := by omega
  rw [a7] at hr
  obtain ⟨rc, rq⟩ := RDL_app _ _ hr
  rw [rgl_len] at rq
  obtain ⟨rq0, rq⟩ := rq
  generalize hC : N 172 (f (b + 1)) = C at *
  have eC : ((C.toNat : Nat) : Int) = C := by omega
  rw [eC] at rq0 rq
  have fc := RDL_rg _ _ _ rc
  have fq := RDL_rg _ _ _ rq
  obtain ⟨_, hz, ht, ⟨hq, _⟩⟩ := hv
  rw [hC] at hz
  rw [show a + 1 + 1 = a + 2 by omega] at r2
  rw [show a + 1 + 1 + 1 = a + 3 by omega] at r3
  rw [show a + 1 + 1 + 1 + 1 = a + 4 by omega] at r4
  rw [show a + 1 + 1 + 1 + 1 + 1 = a + 5 by omega] at r5
  rw [show a + 1 + 1 + 1 + 1 + 1 + 1 = a + 6 by omega] at r6
  generalize hB1 : s6X B x a (f b) (f (b + 1)) (f (b + 2)) (f (b + 3)) (f (b + 4)) (f (b + 5)) = B1
  obtain ⟨e10, e11, e12, e18, e19, e20⟩ := s6X_v (B := B) (x := x) (a := a) (v1 := f b) (v2 := f (b + 1)) (v3 := f (b + 2)) (v4 := f (b + 3)) (v5 := f (b + 4)) (v6 := f (b + 5))
  rw [hB1] at e10 e11 e12 e18 e19 e20
  generalize hB2 : s3X B1 x (if 0 ≤ f (b + 22 + 0) then 1 else 0) (if 0 ≤ f (b + 22 + 1) then 1 else 0) (if 0 ≤ f (b + 22 + 2) then 1 else 0) = B2
  have b2r : ∀ r : Nat, r ≠ 16 → r ≠ 17 → B2 r = B1 r := fun r c1 c2 => by rw [← hB2]; exact s3X_r c1 c2
  have b1r : ∀ r : Nat, r ∉ [0, 10, 11, 12, 18, 19, 20] → B1 r = B r := fun r c => by rw [← hB1]; exact s6X_r c
  have b165 : B1 0 65 = a + 7 := by rw [← hB1]; exact s6X_65
  obtain ⟨B3, p1, p2, p3, p4, p5, p6⟩ := u_158 (x := x) (B := B2) (k := k) (o := onb f b) (C := C) (a0 := a + 7) x12 (by rw [b2r 11 (by decide) (by decide), e11]; exact hT) (by rw [b2r 92 (by decide) (by decide), b2r 11 (by decide) (by decide), e11, b1r 92 (by decide)]; exact h92) (by omega) (by omega) (fun j => f (b + 6 + j)) (fun j j0 j1 => by
    rw [b2r 27 (by decide) (by decide), b1r 27 (by decide)]
    have := fc j j0 (by omega)
    rw [Int.sub_zero] at this; exact this) (fun j j0 j1 => hz j j0 (by omega) j1) 16 0 B2 (by decide) (by decide) (fun _ _ _ => rfl) (by rw [b2r 0 (by decide) (by decide), b165]; split <;> omega)
  generalize hB4 : up_ (up_ B3 0 65 (a + 7 + C + 1)) 14 x (f (b + 25)) = B4
  have b4r : ∀ r : Nat, r ≠ 0 → r ≠ 14 → B4 r = B3 r := fun r c1 c2 => by rw [← hB4, up_ne c2, up_ne c1]
  have b27 : B3 27 = B 27 := by rw [p2 27 (by decide) (by decide), b2r 27 (by decide) (by decide), b1r 27 (by decide)]
  have e14 : B4 14 x = f (b + 25) := by rw [← hB4, up_at]
  obtain ⟨B5, q1, q2, q3, q4, q5, q6⟩ := u_223 (x := x) (B := B4) (k := k) (o := onb f b) (C := f (b + 25)) (a0 := a + 7 + C + 1) x12 e14 hq (by omega) (fun j => f (b + 26 + j)) (fun j j0 j1 => by
    rw [b4r 27 (by decide) (by decide), b27]
    have := fq j j0 (by omega)
    rw [Int.sub_zero] at this; exact this) (5 * f (b + 25)).toNat 0 B4 (by omega) (by decide) (fun _ _ _ => rfl) (by rw [← hB4, up_ne (by decide), up_at]; omega)
  -- fields
  have f0 : ∀ i : Int, i ≠ 65 → B5 0 i = B 0 i := fun i hi => by rw [q3 i hi, ← hB4, up_ne (by decide), upo hi, p3 i hi, b2r 0 (by decide) (by decide), ← hB1]; exact s6X_0 hi
  -- roles of one place each
  have f1 : ∀ q : Nat, q ∈ [10, 11, 12, 18, 19, 20] → B5 q = B1 q := fun q hq => by
    have hm : q ≠ 0 ∧ q ≠ 13 ∧ q ≠ 14 ∧ q ≠ 15 ∧ q ≠ 16 ∧ q ≠ 17 := by simp only [List.mem_cons, List.not_mem_nil, or_false] at hq; omega
    rw [q2 q hm.1 hm.2.2.2.1, b4r q hm.1 hm.2.2.1, p2 q hm.1 hm.2.1, b2r q hm.2.2.2.2.1 hm.2.2.2.2.2]
  have f14 : B5 14 = B4 14 := q2 14 (by decide) (by decide)
  have f13 : ∀ i, B5 13 i = B3 13 i := fun i => by rw [q2 13 (by decide) (by decide), b4r 13 (by decide) (by decide)]
  have f16 : ∀ q : Nat, q = 16 ∨ q = 17 → B5 q = B2 q := fun q hq => by
    have hm : q ≠ 0 ∧ q ≠ 13 ∧ q ≠ 14 ∧ q ≠ 15 := by omega
    rw [q2 q hm.1 hm.2.2.2, b4r q hm.1 hm.2.2.1, p2 q hm.1 hm.2.1]
  have f15 : B4 15 = B 15 := by rw [b4r 15 (by decide) (by decide), p2 15 (by decide) (by decide), b2r 15 (by decide) (by decide), b1r 15 (by decide)]
  have b19 : B1 0 9 = B 0 9 := by rw [← hB1]; exact s6X_0 (by decide)
  have tv := s3X_v (B := B1) (x := x) (s0 := if 0 ≤ f (b + 22 + 0) then 1 else 0) (s1 := if 0 ≤ f (b + 22 + 1) then 1 else 0) (s2 := if 0 ≤ f (b + 22 + 2) then 1 else 0)
  rw [hB2] at tv
  have c1 : RC 1 m_41 27 [rr 0, ii k, ii x, none, none] B 103 [rr 0, ii k, ii x, ii (onb f b), ii 0] B1 := fun V Qr Qt hV hW gg => b_41_27 (Tr_mono _) hV hW _ _ _ (by
    rw [if_pos hx.2]
    refine x_42 (by omega) h65 _ _ (ri_i ⟨x12, ?_⟩)
    rw [r0]
    have z1 : ∀ (D : mm_) (q : Nat) (v c : Int), up_ (up_ D 0 65 c) q x v = stp D q x v c := fun _ _ _ _ => rfl
    rw [z1]
    refine x_42 (a := a + 1) (by omega) (stp_65 (by decide)) _ _ (ri_i ⟨x12, ?_⟩)
    rw [stp_27 (by decide), r1, show a + 1 + 1 = a + 2 by omega, z1]
    refine x_42 (a := a + 2) (by omega) (stp_65 (by decide)) _ _ (ri_i ⟨x12, ?_⟩)
    rw [stp_27 (by decide), stp_27 (by decide), r2, show a + 2 + 1 = a + 3 by omega, z1]
    refine x_42 (a := a + 3) (by omega) (stp_65 (by decide)) _ _ (ri_i ⟨x12, ?_⟩)
    rw [stp_27 (by decide), stp_27 (by decide), stp_27 (by decide), r3, show a + 3 + 1 = a + 4 by omega, z1]
    refine x_42 (a := a + 4) (by omega) (stp_65 (by decide)) _ _ (ri_i ⟨x12, ?_⟩)
    rw [stp_27 (by decide), stp_27 (by decide), stp_27 (by decide), stp_27 (by decide), r4, show a + 4 + 1 = a + 5 by omega, z1]
    refine x_42 (a := a + 5) (by omega) (stp_65 (by decide)) _ _ (ri_i ⟨x12, ?_⟩)
    rw [stp_27 (by decide), stp_27 (by decide), stp_27 (by decide), stp_27 (by decide), stp_27 (by decide), r5, show a + 5 + 1 = a + 6 by omega, z1]
    refine x_42 (a := a + 6) (by omega) (stp_65 (by decide)) _ _ (ri_i ?_)
    rw [stp_27 (by decide), stp_27 (by decide), stp_27 (by decide), stp_27 (by decide), stp_27 (by decide), stp_27 (by decide), r6, show a + 6 + 1 = a + 7 by omega]
    exact (show V 103 [rr 0, ii k, ii x, ii (onb f b), ii 0] [] (s6X B x a (f b) (f (b + 1)) (f (b + 2)) (f (b + 3)) (f (b + 4)) (f (b + 5))) from by rw [hB1]; exact gg))
  have c2 : RC 1 m_41 103 [rr 0, ii k, ii x, ii (onb f b), ii 0] B1 158 [rr 0, ii k, ii x, ii (onb f b), ii 0] B2 := fun V Qr Qt hV hW gg => by
    exact (fun (st : ∀ (t : Int) (D : mm_), 0 ≤ t → t < 3 → V 103 [rr 0, ii k, ii x, ii (onb f b), ii (t + 1)] [] (up_ (up_ D 16 (3 * x + t) (if 0 ≤ f (b + 22 + t) then 1 else 0)) 17 (3 * x + t) (D 0 9)) → V 103 [rr 0, ii k, ii x, ii (onb f b), ii t] [] D) => by
      refine st 0 B1 (by decide) (by decide) (st (0 + 1) _ (by decide) (by decide) (st (0 + 1 + 1) _ (by decide) (by decide) ?_))
      refine b_41_103 (Tr_mono _) hV hW _ _ _ _ _ ?_
      rw [if_neg (by decide)]
      unfold s3X at hB2
      simp only [up_ne (show (0 : Nat) ≠ 17 by decide), up_ne (show (0 : Nat) ≠ 16 by decide)]
      show V 158 [rr 0, ii k, ii x, ii (onb f b), ii 0] [] (up_ (up_ (up_ (up_ (up_ (up_ B1 16 (3 * x + 0) (if 0 ≤ f (b + 22 + 0) then 1 else 0)) 17 (3 * x + 0) (B1 0 9)) 16 (3 * x + 1) (if 0 ≤ f (b + 22 + 1) then 1 else 0)) 17 (3 * x + 1) (B1 0 9)) 16 (3 * x + 2) (if 0 ≤ f (b + 22 + 2) then 1 else 0)) 17 (3 * x + 2) (B1 0 9))
      rw [hB2]; exact gg) (fun t D t0 t1 g2 => by
      refine b_41_103 (Tr_mono _) hV hW _ _ _ _ _ ?_
      rw [if_pos t1, w32_id (x := 3 * x) (by omega) (by omega), w32_id (x := 3 * x + t) (by omega) (by omega), w32_id (x := t + 1) (by omega) (by omega)]
      by_cases c : 0 ≤ f (b + 22 + t)
      · rw [if_pos c] at g2
        rw [if_neg (fun e => (onb_t t0 t1).1 e c)]
        exact ⟨⟨by omega, .inr rfl⟩, by omega, g2⟩
      · rw [if_neg c] at g2
        rw [if_pos ((onb_t t0 t1).2 c)]
        exact ⟨⟨by omega, .inl rfl⟩, by omega, g2⟩)
  have c3 : RC 1 m_41 158 [rr 0, ii k, ii x, ii (onb f b), ii 16] B3 223 [rr 0, ii k, ii x, ii (onb f b), ii 0] B4 := fun V Qr Qt hV hW gg => b_41_158 (Tr_mono _) hV hW _ _ _ _ _ (by
    rw [if_neg (by decide)]
    refine x_42 (by omega) p6 _ _ (ri_i ⟨x12, ?_⟩)
    rw [b27, rq0, hB4]; exact gg)
  refine ⟨B5, RC_tr c1 (RC_tr c2 (RC_tr p1 (RC_tr c3 q1))), ⟨fun r hr => ?_, f0, fun q hq i hi => ?_, fun i hi => ?_, fun i hi => ?_, fun i hi => ?_⟩, ?_, ?_⟩
  · have e : ∀ q : Nat, q ∈ [0, 10, 11, 12, 13, 14, 15, 16, 17, 18, 19, 20] → r ≠ q := fun q hq e => hr (by rw [e]; exact hq)
    rw [q2 r (e 0 (by decide)) (e 15 (by decide)), b4r r (e 0 (by decide)) (e 14 (by decide)), p2 r (e 0 (by decide)) (e 13 (by decide)), b2r r (e 16 (by decide)) (e 17 (by decide)), b1r r (fun c => hr (by simp only [List.mem_cons, List.not_mem_nil, or_false] at c ⊢; omega))]
  · by_cases c : q = 14
    · subst c
      rw [f14, ← hB4, upo hi, up_ne (by decide), p2 14 (by decide) (by decide), b2r 14 (by decide) (by decide), b1r 14 (by decide)]
    · rw [f1 q (by simp only [List.mem_cons, List.not_mem_nil, or_false] at hq ⊢; omega), ← hB1]
      exact s6X_o (by simp only [List.mem_cons, List.not_mem_nil, or_false] at hq; omega) hi
  · rw [f13, p4 i (by omega), b2r 13 (by decide) (by decide), b1r 13 (by decide)]
  · rw [q4 i (by omega), f15]
  · have o := s3X_o (B := B1) (x := x) (s0 := if 0 ≤ f (b + 22 + 0) then 1 else 0) (s1 := if 0 ≤ f (b + 22 + 1) then 1 else 0) (s2 := if 0 ≤ f (b + 22 + 2) then 1 else 0) hi
    rw [hB2] at o
    rw [f16 16 (.inl rfl), f16 17 (.inr rfl), o.1, o.2, b1r 16 (by decide), b1r 17 (by decide)]
    exact ⟨rfl, rfl⟩
  · unfold SLD
    rw [hb, f1 10 (by decide), f1 11 (by decide), f1 12 (by decide), f1 18 (by decide), f1 19 (by decide), f1 20 (by decide), f14, e14, f0 9 (by decide), f16 16 (.inl rfl), f16 17 (.inr rfl)]
    refine ⟨⟨e10, e11, e12, e18, e19, e20⟩, fun i i0 i1 => by rw [f13]; exact p5 i i0 i1, fun t t0 t1 => ?_, rfl, fun i i0 i1 => q5 i i0 i1⟩
    have := tv t t0 t1
    rw [this.1, this.2, b19]
    refine ⟨?_, rfl⟩
    rcases (by omega : t = 0 ∨ t = 1 ∨ t = 2) with e | e | e <;> (subst e; simp)
  · rw [q6]
    unfold slL slT
    simp only [List.length_cons, List.length_append, rgl_len, hC]
    omega
end ULa
end T400_ul
section T401_ur
/-! the search: X unpacks, whole (X 41); Q loads (386) -/
def ROD (B : mm_) (f : Int → Int) (r : Int) : Prop := B 21 r = f (sR r) ∧ ∀ q, 0 ≤ q → q < f (sR r) → (∀ j, 0 ≤ j → j < 7 → j ≠ 3 → B 22 (42 * r + 7 * q + j) = f (sR r + 1 + 7 * q + j)) ∧ B 22 (42 * r + 7 * q + 3) = B 0 9
section URa
variable {M N B B' B1 : mm_} {f g h : Int → Int} {a k x v A b r q : Int} {L K : List Int}
/-- an entry -/
theorem u_303 [Inhabited fz_] {a0 nw : Int} (hr : 0 ≤ r ∧ r < 10) (hq : 0 ≤ q ∧ q < 6) (ha : 0 ≤ a0 ∧ a0 + 6 < 221100) (h9 : B 0 9 = nw) (g : Int → Int) (hg : ∀ j, 0 ≤ j → j < 7 → j ≠ 3 → B 27 (a0 + (if j ≤ 3 then j else j - 1)) = g j) : ∀ (n : Nat) (j : Int) (A : mm_), j + n = 7 → 0 ≤ j → (∀ r : Nat, r ≠ 0 → r ≠ 22 → A r = B r) → (∀ i : Int, i ≠ 65 → A 0 i = B 0 i) → A 0 65 = a0 + (if j ≤ 3 then j else j - 1) →
    ∃ A', RC 1 m_41 303 [rr 0, ii k, ii r, ii q, ii j] A 290 [rr 0, ii k, ii r, ii (q + 1), none] A' ∧ (∀ r : Nat, r ≠ 0 → r ≠ 22 → A' r = B r) ∧ (∀ i : Int, i ≠ 65 → A' 0 i = B 0 i) ∧ (∀ i, i < 42 * r + 7 * q + j ∨ 42 * r + 7 * q + 7 ≤ i → A' 22 i = A 22 i) ∧ (∀ i, j ≤ i → i < 7 → A' 22 (42 * r + 7 * q + i) = if i = 3 then nw else g i) ∧ A' 0 65 = a0 + 6 := fun n => by
  induction n with
  | zero =>
    intro j A hj j0 hA h0 h65
    refine ⟨A, fun V Qr Qt hV hW gg => b_41_303 (Tr_mono _) hV hW _ _ _ _ _ ?_, hA, h0, fun _ _ => rfl, fun i i0 i1 => by omega, by rw [h65, if_neg (by omega)]; omega⟩
    rw [if_neg (by omega), w32_id (x := q + 1) (by omega) (by omega)]; exact gg
  | succ n ih =>
    intro j A hj j0 hA h0 h65
    have wj : w32 (j + 1) = j + 1 := w32_id (by omega) (by omega)
    have wi : w32 (42 * r + 7 * q + j) = 42 * r + 7 * q + j := w32_id (by omega) (by omega)
    by_cases c : j = 3
    · generalize hA1 : up_ A 22 (42 * r + 7 * q + j) nw = A1
      have a22 : A1 22 (42 * r + 7 * q + j) = nw := by rw [← hA1, up_at]
      obtain ⟨A', r1, r2, r3, r4, r5, r6⟩ := ih (j + 1) A1 (by omega) (by omega) (fun r h1 h2 => by rw [← hA1, up_ne h2]; exact hA r h1 h2) (fun i hi => by rw [← hA1, up_ne (by decide)]; exact h0 i hi) (by rw [← hA1, up_ne (by decide), h65, if_pos (by omega), if_neg (by omega)]; omega)
      refine ⟨A', RC_tr (fun V Qr Qt hV hW gg => b_41_303 (Tr_mono _) hV hW _ _ _ _ _ ?_) r1, r2, r3, fun i hi => by rw [r4 i (by omega), ← hA1, upo (by omega)], fun i i0 i1 => ?_, r6⟩
      · rw [if_pos (by omega)]
        refine x_2 hr (by omega) _ _ (ri_i ?_)
        rw [if_pos c, wi, wj, h0 9 (by decide), h9, hA1]
        exact ⟨by omega, gg⟩
      · by_cases e : i = j
        · rw [e, r4 _ (by omega), a22, if_pos c]
        · exact r5 i (by omega) i1
    · have rd := hg j j0 (by omega) c
      generalize hA1 : up_ (up_ A 0 65 (a0 + (if j ≤ 3 then j else j - 1) + 1)) 22 (42 * r + 7 * q + j) (g j) = A1
      have a22 : A1 22 (42 * r + 7 * q + j) = g j := by rw [← hA1, up_at]
      obtain ⟨A', r1, r2, r3, r4, r5, r6⟩ := ih (j + 1) A1 (by omega) (by omega) (fun r h1 h2 => by rw [← hA1, up_ne h2, up_ne h1]; exact hA r h1 h2) (fun i hi => by rw [← hA1, up_ne (by decide), upo hi]; exact h0 i hi) (by
        rw [← hA1, up_ne (by decide), up_at]
        by_cases c2 : j ≤ 3
        · rw [if_pos c2, if_pos (by omega)]; omega
        · rw [if_neg c2, if_neg (by omega)]; omega)
      refine ⟨A', RC_tr (fun V Qr Qt hV hW gg => b_41_303 (Tr_mono _) hV hW _ _ _ _ _ ?_) r1, r2, r3, fun i hi => by rw [r4 i (by omega), ← hA1, upo (by omega), up_ne (by decide)], fun i i0 i1 => ?_, r6⟩
      · rw [if_pos (by omega)]
        refine x_2 hr (by omega) _ _ (ri_i ?_)
        rw [if_neg c]
        refine x_42 (by split <;> omega) h65 _ _ (ri_i ?_)
        rw [wi, wj, hA 27 (by decide) (by decide), rd, hA1]
        exact ⟨by omega, gg⟩
      · by_cases e : i = j
        · rw [e, r4 _ (by omega), a22, if_neg c]
        · exact r5 i (by omega) i1
/-- the entries of a route -/
theorem u_290 [Inhabited fz_] {a0 C nw : Int} (hr : 0 ≤ r ∧ r < 10) (hC : B 21 r = C) (hC2 : 0 ≤ C ∧ C ≤ 6) (ha : 0 ≤ a0 ∧ a0 + 40 < 221100) (h9 : B 0 9 = nw) (hg : ∀ q, 0 ≤ q → q < C → ∀ j, 0 ≤ j → j < 7 → j ≠ 3 → B 27 (a0 + 6 * q + (if j ≤ 3 then j else j - 1)) = f (b + 1 + 7 * q + j)) : ∀ (n : Nat) (q : Int) (A : mm_), q + n = C → 0 ≤ q → (∀ r : Nat, r ≠ 0 → r ≠ 22 → A r = B r) → (∀ i : Int, i ≠ 65 → A 0 i = B 0 i) → A 0 65 = a0 + 6 * q →
    ∃ A', RC 1 m_41 290 [rr 0, ii k, ii r, ii q, none] A 267 [rr 0, ii k, ii (r + 1), none, none] A' ∧ (∀ r : Nat, r ≠ 0 → r ≠ 22 → A' r = B r) ∧ (∀ i : Int, i ≠ 65 → A' 0 i = B 0 i) ∧ (∀ i, i < 42 * r + 7 * q ∨ 42 * r + 42 ≤ i → A' 22 i = A 22 i) ∧ (∀ p, q ≤ p → p < C → ∀ i, 0 ≤ i → i < 7 → A' 22 (42 * r + 7 * p + i) = if i = 3 then nw else f (b + 1 + 7 * p + i)) ∧ A' 0 65 = a0 + 6 * C := fun n => by
  induction n with
  | zero =>
    intro q A hq q0 hA h0 h65
    refine ⟨A, fun V Qr Qt hV hW gg => b_41_290 (Tr_mono _) hV hW _ _ _ _ ?_, hA, h0, fun _ _ => rfl, fun p p0 p1 => by omega, by rw [h65]; omega⟩
    rw [hA 21 (by decide) (by decide), hC, if_neg (by omega), w32_id (x := r + 1) (by omega) (by omega)]; exact ⟨hr, gg⟩
  | succ n ih =>
    intro q A hq q0 hA h0 h65
    obtain ⟨A1, s1, s2, s3, s4, s5, s6⟩ := u_303 (k := k) (r := r) (q := q) (B := A) (a0 := a0 + 6 * q) (nw := nw) hr (by omega) (by omega) (by rw [h0 9 (by decide)]; exact h9) (fun j => f (b + 1 + 7 * q + j)) (fun j j0 j1 j3 => by rw [hA 27 (by decide) (by decide)]; exact hg q q0 (by omega) j j0 j1 j3) 7 0 A (by decide) (by decide) (fun _ _ _ => rfl) (fun _ _ => rfl) (by rw [if_pos (by decide), h65]; omega)
    obtain ⟨A', r1, r2, r3, r4, r5, r6⟩ := ih (q + 1) A1 (by omega) (by omega) (fun r h1 h2 => by rw [s2 r h1 h2]; exact hA r h1 h2) (fun i hi => by rw [s3 i hi]; exact h0 i hi) (by rw [s6]; omega)
    refine ⟨A', RC_tr (RC_tr (fun V Qr Qt hV hW gg => b_41_290 (Tr_mono _) hV hW _ _ _ _ ?_) s1) r1, r2, r3, fun i hi => by rw [r4 i (by omega), s4 i (by omega)], fun p p0 p1 i i0 i1 => ?_, r6⟩
    · rw [hA 21 (by decide) (by decide), hC, if_pos (by omega)]; exact ⟨hr, gg⟩
    · by_cases e : p = q
      · rw [e, r4 _ (by omega)]; exact s5 i i0 i1
      · exact r5 p (by omega) p1 i i0 i1
/-- all routes -/
theorem u_267 [Inhabited fz_] (hN : 0 ≤ N 6 18 ∧ N 6 18 ≤ 10) (hv : ∀ r, 0 ≤ r → r < N 6 18 → VRO f (sR r)) : ∀ (n : Nat) (r a : Int) (B : mm_), B 4 1 = N 6 18 → r + n = N 6 18 → 0 ≤ r → 0 ≤ a → a + 40 * n + 10 < 221100 → B 0 65 = a → RDL (B 27) a (rosL f r n) → (∀ j, 0 ≤ j → j < r → ROD B f j) →
    ∃ B', (∀ (V : vv_) (Qr : qr_) (Qt : qt_), Cl_ wd0 (Tr_ wd0 pg0 1) V Qr Qt m_41 → Wk_ V → Qr [] B' → V 267 [rr 0, ii k, ii r, none, none] [] B) ∧ (∀ q : Nat, q ≠ 0 → q ≠ 21 → q ≠ 22 → B' q = B q) ∧ (∀ i : Int, i ≠ 65 → B' 0 i = B 0 i) ∧ ∀ j, 0 ≤ j → j < N 6 18 → ROD B' f j := fun n => by
  induction n with
  | zero =>
    intro r a B h4 hr r0 a0 a1 h65 hd hR
    refine ⟨B, fun V Qr Qt hV hW gg => b_41_267 (Tr_mono _) hV hW _ _ _ ?_, fun _ _ _ _ => rfl, fun _ _ => rfl, fun j j0 j1 => hR j j0 (by omega)⟩
    rw [if_neg (by omega)]; exact gg
  | succ n ih =>
    intro r a B h4 hr r0 a0 a1 h65 hd hR
    obtain ⟨vc, _, _⟩ := hv r r0 (by omega)
    unfold rosL at hd
    obtain ⟨hd1, hd2⟩ := RDL_app _ _ hd
    unfold roL at hd1 hd2
    rw [List.length_cons, enL_len] at hd2
    obtain ⟨c0, hd1⟩ := hd1
    have en := RDL_en _ _ _ hd1
    generalize hB1 : up_ (up_ B 0 65 (a + 1)) 21 r (f (sR r)) = B1
    have e21 : B1 21 r = f (sR r) := by rw [← hB1, up_at]
    have b1r : ∀ q : Nat, q ≠ 0 → q ≠ 21 → B1 q = B q := fun q h1 h2 => by rw [← hB1, up_ne h2, up_ne h1]
    have b10 : ∀ i : Int, i ≠ 65 → B1 0 i = B 0 i := fun i hi => by rw [← hB1, up_ne (by decide), upo hi]
    have b165 : B1 0 65 = a + 1 := by rw [← hB1, up_ne (by decide), up_at]
    obtain ⟨B2, s1, s2, s3, s4, s5, s6⟩ := u_290 (k := k) (r := r) (B := B1) (f := f) (b := sR r) (a0 := a + 1) (C := f (sR r)) (nw := B 0 9) (by omega) e21 vc (by omega) (b10 9 (by decide)) (fun q q0 q1 j j0 j1 j3 => by
      rw [b1r 27 (by decide) (by decide)]
      obtain ⟨d0, d1, d2, d3, d4, d5⟩ := en q q0 (by omega)
      rw [Int.sub_zero] at d0 d1 d2 d3 d4 d5
      rcases (by omega : j = 0 ∨ j = 1 ∨ j = 2 ∨ j = 4 ∨ j = 5 ∨ j = 6) with e | e | e | e | e | e
      · subst e; rw [if_pos (by decide), Int.add_zero]; exact d0
      · subst e; rw [if_pos (by decide)]; exact d1
      · subst e; rw [if_pos (by decide)]; exact d2
      · subst e; rw [if_neg (by decide)]; exact d3
      · subst e; rw [if_neg (by decide)]; exact d4
      · subst e; rw [if_neg (by decide)]; exact d5) (f (sR r)).toNat 0 B1 (by omega) (by decide) (fun _ _ _ => rfl) (fun _ _ => rfl) (by rw [b165]; omega)
    have g9 : B2 0 9 = B 0 9 := by rw [s3 9 (by decide), b10 9 (by decide)]
    obtain ⟨B', r1, r2, r3, r4⟩ := ih (r + 1) (a + 1 + 6 * f (sR r)) B2 (by rw [s2 4 (by decide) (by decide), b1r 4 (by decide) (by decide)]; exact h4) (by omega) (by omega) (by omega) (by omega) s6 (by
        rw [s2 27 (by decide) (by decide), b1r 27 (by decide) (by decide)]
        rw [show a + 1 + 6 * f (sR r) = a + ((6 * (f (sR r)).toNat + 1 : Nat) : Int) by omega]; exact hd2) (fun j j0 j1 => by
        by_cases e : j = r
        · subst e
          refine ⟨by rw [s2 21 (by decide) (by decide)]; exact e21, fun q q0 q1 => ⟨fun i i0 i1 i3 => ?_, ?_⟩⟩
          · have := s5 q q0 q1 i i0 i1
            rw [if_neg i3] at this; exact this
          · have := s5 q q0 q1 3 (by decide) (by decide)
            rw [if_pos rfl] at this; rw [this, g9]
        · obtain ⟨o1, o2⟩ := hR j j0 (by omega)
          have vj := (hv j j0 (by omega)).1
          refine ⟨by rw [s2 21 (by decide) (by decide), ← hB1, upo e, up_ne (by decide)]; exact o1, fun q q0 q1 => ⟨fun i i0 i1 i3 => ?_, ?_⟩⟩
          · rw [s4 _ (by omega), b1r 22 (by decide) (by decide)]; exact (o2 q q0 q1).1 i i0 i1 i3
          · rw [s4 _ (by omega), b1r 22 (by decide) (by decide), g9]; exact (o2 q q0 q1).2)
    refine ⟨B', fun V Qr Qt hV hW gg => b_41_267 (Tr_mono _) hV hW _ _ _ ?_, fun q h1 h2 h3 => by rw [r2 q h1 h2 h3, s2 q h1 h3, b1r q h1 h2], fun i hi => by rw [r3 i hi, s3 i hi, b10 i hi], r4⟩
    rw [if_pos (by omega)]
    refine x_42 (by omega) h65 _ _ (ri_i ⟨by omega, ?_⟩)
    rw [c0, hB1]
    exact s1 V Qr Qt hV hW (r1 V Qr Qt hV hW gg)
/-- instances -/
theorem SLD_c [Inhabited fz_] (h : SLX x B B') (hk : k ≠ x) (hq : f (sB k + 25) ≤ 6) (hd : SLD B f k) : SLD B' f k := by
  obtain ⟨c1, c2, c3, c4, c5, c6⟩ := h
  obtain ⟨d1, d2, d3, d4, d5⟩ := hd
  unfold SLD
  rw [c3 10 (by decide) k hk, c3 11 (by decide) k hk, c3 12 (by decide) k hk, c3 18 (by decide) k hk, c3 19 (by decide) k hk, c3 20 (by decide) k hk, c3 14 (by decide) k hk, c2 9 (by decide)]
  exact ⟨d1, fun i i0 i1 => by rw [c4 _ (by omega)]; exact d2 i i0 i1, fun t t0 t1 => by rw [(c6 _ (by omega)).1, (c6 _ (by omega)).2]; exact d3 t t0 t1, d4, fun i i0 i1 => by rw [c5 _ (by omega)]; exact d5 i i0 i1⟩
theorem u_sl [Inhabited fz_] (hN : PKB N) (hf : f 0 ≤ 12) (hv : ∀ k, 0 ≤ k → k < f 0 → VSL N f (sB k)) : ∀ (n : Nat) (x a : Int) (B : mm_), B 0 7 = f 0 → (∀ T, 0 ≤ T → T < N 6 19 → B 92 T = N 172 T) → x + n = f 0 → 0 ≤ x → 0 ≤ a → a + 60 * n + 60 < 221100 → B 0 65 = a → RDL (B 27) a (slsL N f x n) → (∀ j, 0 ≤ j → j < x → SLD B f j) →
    ∃ B', RC 1 m_41 27 [rr 0, ii k, ii x, none, none] B 27 [rr 0, ii k, ii (f 0), none, none] B' ∧ (∀ q : Nat, q ∉ [0, 10, 11, 12, 13, 14, 15, 16, 17, 18, 19, 20] → B' q = B q) ∧ (∀ i : Int, i ≠ 65 → B' 0 i = B 0 i) ∧ (∀ j, 0 ≤ j → j < f 0 → SLD B' f j) ∧ B' 0 65 = a + (slsL N f x n).length := fun n => by
  induction n with
  | zero =>
    intro x a B h7 h92 hx x0 a0 a1 h65 hd hS
    refine ⟨B, ?_, fun _ _ => rfl, fun _ _ => rfl, fun j j0 j1 => hS j j0 (by omega), by unfold slsL; rw [h65, List.length_nil]; simp⟩
    rw [show x = f 0 by omega]; exact RC_rf
  | succ n ih =>
    intro x a B h7 h92 hx x0 a0 a1 h65 hd hS
    have vx := hv x x0 (by omega)
    have hT := vx.1.2.1
    have pT := hN.2.2 _ hT.1 hT.2
    have h6 := hN.2.1
    unfold slsL at hd
    obtain ⟨hd1, hd2⟩ := RDL_app _ _ hd
    obtain ⟨B1, p1, p2, p3, p4⟩ := u_27 (k := k) (N := N) (f := f) (x := x) (a := a) (B := B) (by omega) (by omega) (by omega) h65 vx (by omega) (h92 _ hT.1 hT.2) pT hd1
    have ll := slL_len (N := N) (f := f) (b := sB x) pT.2 vx.2.2.2.1.2
    obtain ⟨B', r1, r2, r3, r4, r5⟩ := ih (x + 1) (a + (slL N f (sB x)).length) B1 (by rw [p2.2.1 7 (by decide)]; exact h7) (fun T T0 T1 => by rw [p2.1 92 (by decide)]; exact h92 T T0 T1) (by omega) (by omega) (by omega) (by omega) p4 (by rw [p2.1 27 (by decide)]; exact hd2) (fun j j0 j1 => by
      by_cases e : j = x
      · rw [e]; exact p3
      · exact SLD_c p2 e (hv j j0 (by omega)).2.2.2.1.2 (hS j j0 (by omega)))
    refine ⟨B', RC_tr p1 r1, fun q hq => by rw [r2 q hq, p2.1 q hq], fun i hi => by rw [r3 i hi, p2.2.1 i hi], r4, ?_⟩
    rw [r5]
    show _ = a + ((slL N f (sB x) ++ slsL N f (x + 1) n).length : Int)
    rw [List.length_append]; omega
theorem x_41 [Inhabited fz_] (hP : PLr M N) (hv : VR N f) (hk : 0 ≤ k ∧ k < 200) (hr : RDL (M 27) (1100 * k) (pkL N f)) : ∃ M', Ex_ 2 41 [.inr (.inr 0), .inl k] M [] M' ∧ UF M M' ∧ (M' 0 7 = f 0 ∧ M' 0 8 = f 1) ∧ (∀ j, 0 ≤ j → j < f 0 → SLD M' f j) ∧ ∀ j, 0 ≤ j → j < N 6 18 → ROD M' f j := by
  obtain ⟨p1, p2, _⟩ := PLr_93 hP
  have p18 := hP.1.2.1
  have p19 := hP.1.2.2
  rw [tbN_6 (by decide)] at p18 p19
  have hN : PKB N := ⟨p18.2, p19.2, fun T T0 T1 => (PL_T hP ⟨T0, T1⟩).2.2.2.1.2⟩
  obtain ⟨⟨f1, f1'⟩, f2, f3, f4, f5⟩ := id hv
  have lp := pkL_len hN hv
  unfold pkL at hr lp
  rw [List.length_cons, List.length_cons, List.length_append] at lp
  obtain ⟨r0, r1, hr⟩ := hr
  obtain ⟨hr1, hr2⟩ := RDL_app _ _ hr
  generalize hB1 : up_ (up_ (up_ (up_ M 0 65 (1100 * k + 1)) 0 7 (f 0)) 0 65 (1100 * k + 1 + 1)) 0 8 (f 1) = B1
  have b1r : ∀ q : Nat, q ≠ 0 → B1 q = M q := fun q h => by rw [← hB1, up_ne h, up_ne h, up_ne h, up_ne h]
  have b10 : ∀ i : Int, i ∉ [7, 8, 65] → B1 0 i = M 0 i := fun i h => by
    simp only [List.mem_cons, List.not_mem_nil, or_false, not_or] at h
    rw [← hB1, upo h.2.1, upo h.2.2, upo h.1, upo h.2.2]
  have b17 : B1 0 7 = f 0 := by rw [← hB1, upo (by decide), upo (by decide), up_at]
  have b18 : B1 0 8 = f 1 := by rw [← hB1, up_at]
  have b165 : B1 0 65 = 1100 * k + 1 + 1 := by rw [← hB1, upo (by decide), up_at]
  obtain ⟨B2, s1, s2, s3, s4, s5⟩ := u_sl (k := k) hN f1.2 f2 (f 0).toNat 0 (1100 * k + 1 + 1) B1 b17 (fun T T0 T1 => by rw [b1r 92 (by decide)]; exact (PL_T hP ⟨T0, T1⟩).2.2.2.1.1) (by omega) (by decide) (by omega) (by omega) b165 (by rw [b1r 27 (by decide)]; exact hr1) (fun j j0 j1 => by omega)
  obtain ⟨B3, u1, u2, u3, u4⟩ := u_267 (k := k) (N := N) (f := f) p18.2 f4 (N 6 18).toNat 0 (1100 * k + 1 + 1 + (slsL N f 0 (f 0).toNat).length) B2 (by rw [s2 4 (by decide), b1r 4 (by decide)]; exact p1) (by omega) (by decide) (by omega) (by omega) s5 (by rw [s2 27 (by decide), b1r 27 (by decide)]; exact hr2) (fun j j0 j1 => by omega)
  refine ⟨B3, fun Qr Qt g => t_41 fun V hV hW => b_41_0 (Tr_mono _) hV hW _ _ ?_, ⟨fun q hq => ?_, fun i hi => ?_⟩, ⟨by rw [u3 7 (by decide), s3 7 (by decide)]; exact b17, by rw [u3 8 (by decide), s3 8 (by decide)]; exact b18⟩, fun j j0 j1 => ?_, u4⟩
  · rw [w32_id (x := 1100 * k) (by omega) (by omega)]
    refine x_42 (by omega) up_at _ _ (ri_i ?_)
    rw [up_ne (by decide), r0]
    have e65 : up_ (up_ M 0 65 (1100 * k)) 0 65 (1100 * k + 1) = up_ M 0 65 (1100 * k + 1) := by
      funext r
      by_cases c : r = 0
      · subst c; funext i
        by_cases c2 : i = 65
        · rw [c2, up_at, up_at]
        · rw [upo c2, upo c2, upo c2]
      · rw [up_ne c, up_ne c, up_ne c]
    rw [e65]
    refine x_42 (a := 1100 * k + 1) (by omega) (by rw [upo (by decide), up_at]) _ _ (ri_i ?_)
    rw [up_ne (by decide), up_ne (by decide), r1, hB1]
    refine s1 V Qr Qt hV hW (b_41_27 (Tr_mono _) hV hW _ _ _ ?_)
    rw [s3 7 (by decide), b17, if_neg (by omega)]
    exact u1 V Qr Qt hV hW g
  · have e : ∀ p : Nat, p ∈ [0, 10, 11, 12, 13, 14, 15, 16, 17, 18, 19, 20, 21, 22] → q ≠ p := fun p hp e => hq (by rw [e]; exact hp)
    rw [u2 q (e 0 (by decide)) (e 21 (by decide)) (e 22 (by decide)), s2 q (fun c => hq (by simp only [List.mem_cons, List.not_mem_nil, or_false] at c ⊢; omega)), b1r q (e 0 (by decide))]
  · have i65 : i ≠ 65 := fun e => hi (by rw [e]; decide)
    rw [u3 i i65, s3 i i65, b10 i hi]
  · obtain ⟨d1, d2, d3, d4, d5⟩ := s4 j j0 j1
    unfold SLD
    rw [u2 10 (by decide) (by decide) (by decide), u2 11 (by decide) (by decide) (by decide), u2 12 (by decide) (by decide) (by decide), u2 13 (by decide) (by decide) (by decide), u2 14 (by decide) (by decide) (by decide), u2 15 (by decide) (by decide) (by decide), u2 16 (by decide) (by decide) (by decide), u2 17 (by decide) (by decide) (by decide), u2 18 (by decide) (by decide) (by decide), u2 19 (by decide) (by decide) (by decide), u2 20 (by decide) (by decide) (by decide), u3 9 (by decide)]
    exact ⟨d1, d2, d3, d4, d5⟩
/-- Q loads -/
def ldF (f g : Int → Int) : Int → Int := fun i => if 0 ≤ i ∧ i < 1104 then g i else f i
theorem q_386 [Inhabited fz_] (hk : 0 ≤ k ∧ k < 200) : Ex_ 1 386 [.inr (.inr 6), .inl k] N [] (wr_ N 239 (ldF (N 239) (fun i => N 245 (1104 * k + i)))) := fun Qr Qt g => t_386 fun V hV hW => b_386_0 (Tr_mono _) hV hW _ _ (by
  have l : ∀ (n : Nat) (i : Int), i + n = 1104 → 0 ≤ i → V 2 [rr 6, ii k, ii i] [] (wr_ N 239 (fun j => if 0 ≤ j ∧ j < i then N 245 (1104 * k + j) else N 239 j)) := fun n => by
    induction n with
    | zero =>
      intro i hi i0
      refine b_386_2 (Tr_mono _) hV hW _ _ _ ?_
      rw [if_neg (by omega), show i = 1104 by omega]; exact g
    | succ n ih =>
      intro i hi i0
      refine b_386_2 (Tr_mono _) hV hW _ _ _ ?_
      rw [if_pos (by omega), w32_id (x := 1104 * k) (by omega) (by omega), w32_id (x := 1104 * k + i) (by omega) (by omega), w32_id (x := i + 1) (by omega) (by omega), wr_ne (by decide), up_wr]
      refine ⟨by omega, by omega, ?_⟩
      have := ih (i + 1) (by omega) (by omega)
      have e : su_ (fun j => if 0 ≤ j ∧ j < i then N 245 (1104 * k + j) else N 239 j) i (N 245 (1104 * k + i)) = fun j => if 0 ≤ j ∧ j < i + 1 then N 245 (1104 * k + j) else N 239 j := by
        funext j
        unfold su_
        by_cases c : j = i
        · rw [if_pos c, if_pos (by omega), c]
        · rw [if_neg c]
          show (if 0 ≤ j ∧ j < i then N 245 (1104 * k + j) else N 239 j) = _
          by_cases c2 : 0 ≤ j ∧ j < i
          · rw [if_pos c2, if_pos (by omega)]
          · rw [if_neg c2, if_neg (by omega)]
      rw [e]; exact this
  have := l 1104 0 (by decide) (by decide)
  rw [show (fun j => if 0 ≤ j ∧ j < 0 then N 245 (1104 * k + j) else N 239 j) = N 239 by funext j; rw [if_neg (by omega)], wr_id] at this
  exact this)
end URa
end T401_ur
section T402_li
/-! the search: is a state known? (X 46 | Q 388, 387, 383, 382) -/
/-- the last place below n where g is b -/
def lsi (g : Int → Int) (b : Int) : Nat → Int
  | 0 => -1
  | n + 1 => if g n = b then n else lsi g b n
def sumR (f : Int → Int) : Nat → Int → Int → Int
  | 0, _, v => v
  | n + 1, i, v => sumR f n (i + 1) (w32 (w32 (31 * v) + f i))
def smF (f : Int → Int) : Int := sumR f 1104 0 0
/-- row k of Q's states -/
def rwk (N : mm_) (k : Int) : Int → Int := fun i => if 0 ≤ i ∧ i < 1104 then N 245 (1104 * k + i) else 0
theorem rwk_i [Inhabited fz_] {N : mm_} {k i : Int} (h0 : 0 ≤ i) (h1 : i < 1104) : rwk N k i = N 245 (1104 * k + i) := by unfold rwk; rw [if_pos ⟨h0, h1⟩]
section LIa
variable {M N B : mm_} {f g : Int → Int} {a k x v b n : Int} {L K : List Int}
theorem lsi_lt [Inhabited fz_] : ∀ (n : Nat), lsi g b n = -1 ∨ (0 ≤ lsi g b n ∧ lsi g b n < n ∧ g (lsi g b n) = b)
  | 0 => .inl rfl
  | n + 1 => by
    unfold lsi
    by_cases c : g n = b
    · rw [if_pos c]; exact .inr ⟨by omega, by omega, c⟩
    · rw [if_neg c]
      rcases lsi_lt n with e | ⟨e1, e2, e3⟩
      · exact .inl e
      · exact .inr ⟨e1, by omega, e3⟩
theorem lsi_no [Inhabited fz_] : ∀ (n : Nat) (i : Int), lsi g b n < i → i < n → g i ≠ b
  | 0, i, h, h1 => by unfold lsi at h; omega
  | n + 1, i, h, h1 => by
    unfold lsi at h
    by_cases c : g n = b
    · rw [if_pos c] at h; omega
    · rw [if_neg c] at h
      by_cases e : i = n
      · rw [e]; exact c
      · exact lsi_no n i h (by omega)
theorem lsi_cg [Inhabited fz_] {g' : Int → Int} : ∀ (n : Nat), (∀ i, 0 ≤ i → i < (n : Int) → g' i = g i) → lsi g' b n = lsi g b n
  | 0, _ => rfl
  | n + 1, h => by unfold lsi; rw [h n (by omega) (by omega), lsi_cg n (fun i i0 i1 => h i i0 (by omega))]
theorem an1023 [Inhabited fz_] (x : Int) : 0 ≤ an_ x 1023 ∧ an_ x 1023 < 1024 := by
  unfold an_
  have h : (Int32.ofInt x &&& Int32.ofInt 1023).toInt = ((Int32.ofInt x).toBitVec &&& 1023#32).toInt := by rfl
  rw [h]
  have h2 : ((Int32.ofInt x).toBitVec &&& 1023#32).toNat < 1024 := by
    rw [BitVec.toNat_and]
    exact Nat.lt_of_le_of_lt Nat.and_le_right (by decide)
  rw [BitVec.toInt_eq_toNat_of_lt (by omega)]
  omega
theorem sumR_cg [Inhabited fz_] : ∀ (n : Nat) (i v : Int), (∀ j, i ≤ j → j < i + n → f j = g j) → sumR f n i v = sumR g n i v
  | 0, _, _, _ => rfl
  | n + 1, i, v, h => by unfold sumR; rw [h i (Int.le_refl _) (by omega), sumR_cg n (i + 1) _ (fun j j0 j1 => h j (by omega) (by omega))]
theorem q_382 [Inhabited fz_] : Ex_ 1 382 [.inr (.inr 6)] N [.inl (smF (N 239))] N := fun Qr Qt g => t_382 fun V hV hW => b_382_0 (Tr_mono _) hV hW _ (by
  have l : ∀ (n : Nat) (i v : Int), i + n = 1104 → 0 ≤ i → Qr [.inl (sumR (N 239) n i v)] N → V 4 [rr 6, ii v, ii i] [] N := fun n => by
    induction n with
    | zero =>
      intro i v hi i0 g
      refine b_382_4 (Tr_mono _) hV hW _ _ _ ?_
      rw [if_neg (by omega)]; exact g
    | succ n ih =>
      intro i v hi i0 g
      refine b_382_4 (Tr_mono _) hV hW _ _ _ ?_
      rw [if_pos (by omega), w32_id (x := i + 1) (by omega) (by omega)]
      exact ⟨by omega, ih (i + 1) _ (by omega) (by omega) g⟩
  exact l 1104 0 0 (by decide) (by decide) g)
/-- whether row k is the state at hand -/
theorem q_388 [Inhabited fz_] (hk : 0 ≤ k ∧ k < 200) : ∃ u, BV u ∧ (u = 1 ↔ (N 253 k = v ∧ ∀ i, 0 ≤ i → i < 1104 → rwk N k i = N 239 i)) ∧ Ex_ 1 388 [.inr (.inr 6), .inl k, .inl v] N [.inl u] N := by
  have l : ∀ (n : Nat) (i : Int), i + n = 1104 → 0 ≤ i → ∃ u, BV u ∧ (u = 1 ↔ ∀ j, i ≤ j → j < 1104 → rwk N k j = N 239 j) ∧ ∀ (V : vv_) (Qr : qr_) (Qt : qt_), Cl_ wd0 (Tr_ wd0 pg0 0) V Qr Qt m_388 → Wk_ V → Qr [.inl u] N → V 19 [rr 6, ii k, ii v, ii 1, ii i] [] N := fun n => by
    induction n with
    | zero =>
      intro i hi i0
      refine ⟨1, .inr rfl, ⟨fun _ j j0 j1 => by omega, fun _ => rfl⟩, fun V Qr Qt hV hW g => b_388_19 (Tr_mono _) hV hW _ _ _ _ _ ?_⟩
      rw [if_neg (by omega)]; exact ⟨.inr rfl, g⟩
    | succ n ih =>
      intro i hi i0
      have w : w32 (w32 (1104 * k) + i) = 1104 * k + i := by rw [w32_id (x := 1104 * k) (by omega) (by omega), w32_id (by omega) (by omega)]
      have wi : w32 (i + 1) = i + 1 := w32_id (by omega) (by omega)
      by_cases c : N 245 (1104 * k + i) = N 239 i
      · obtain ⟨u, u1, u2, u3⟩ := ih (i + 1) (by omega) (by omega)
        refine ⟨u, u1, ?_, fun V Qr Qt hV hW g => b_388_19 (Tr_mono _) hV hW _ _ _ _ _ ?_⟩
        · rw [u2]
          exact ⟨fun h j j0 j1 => by by_cases e : j = i; rw [e, rwk_i i0 (by omega)]; exact c; exact h j (by omega) j1, fun h j j0 j1 => h j (by omega) j1⟩
        · rw [if_pos (by omega), if_neg (by decide), w, if_pos c, wi]
          exact ⟨by omega, by omega, u3 V Qr Qt hV hW g⟩
      · refine ⟨0, .inl rfl, ⟨fun h => absurd h (by decide), fun h => absurd (by have := h i (Int.le_refl _) (by omega); rw [rwk_i i0 (by omega)] at this; exact this) c⟩, fun V Qr Qt hV hW g => b_388_19 (Tr_mono _) hV hW _ _ _ _ _ ?_⟩
        rw [if_pos (by omega), if_neg (by decide), w, if_neg c, wi]
        refine ⟨by omega, by omega, b_388_19 (Tr_mono _) hV hW _ _ _ _ _ ?_⟩
        by_cases c2 : i + 1 < 1104
        · rw [if_pos c2, if_pos rfl]; exact ⟨.inl rfl, g⟩
        · rw [if_neg c2]; exact ⟨.inl rfl, g⟩
  by_cases c : N 253 k = v
  · obtain ⟨u, u1, u2, u3⟩ := l 1104 0 (by decide) (by decide)
    refine ⟨u, u1, ?_, fun Qr Qt g => t_388 fun V hV hW => b_388_0 (Tr_mono _) hV hW _ _ _ ⟨hk, ?_⟩⟩
    · rw [u2]; exact ⟨fun h => ⟨c, h⟩, fun h => h.2⟩
    · rw [if_pos c]; exact u3 V Qr Qt hV hW g
  · refine ⟨0, .inl rfl, ⟨fun h => absurd h (by decide), fun h => absurd h.1 c⟩, fun Qr Qt g => t_388 fun V hV hW => b_388_0 (Tr_mono _) hV hW _ _ _ ⟨hk, ?_⟩⟩
    rw [if_neg c]
    refine b_388_19 (Tr_mono _) hV hW _ _ _ _ _ ?_
    rw [if_pos (by decide), if_pos rfl]; exact ⟨.inl rfl, g⟩
/-- Q looks for the state at hand among those found -/
theorem q_43 [Inhabited fz_] {x1 : Int} (hn : N 6 163 = n) (hn2 : 0 ≤ n ∧ n ≤ 200) : ∃ w, (0 ≤ w ∧ w ≤ n) ∧ (w = n ↔ ∀ k, 0 ≤ k → k < n → ¬ (N 253 k = v ∧ ∀ i, 0 ≤ i → i < 1104 → rwk N k i = N 239 i)) ∧ RC 2 m_387 43 [rr 6, ii x1, ii v, ii 0] N 66 [rr 6, ii x1, ii v, ii w] N := by
  have l : ∀ (j : Nat) (x : Int), x + j = n → 0 ≤ x → (∀ k, 0 ≤ k → k < x → ¬ (N 253 k = v ∧ ∀ i, 0 ≤ i → i < 1104 → rwk N k i = N 239 i)) → ∃ w, (0 ≤ w ∧ w ≤ n) ∧ (w = n ↔ ∀ k, 0 ≤ k → k < n → ¬ (N 253 k = v ∧ ∀ i, 0 ≤ i → i < 1104 → rwk N k i = N 239 i)) ∧ RC 2 m_387 43 [rr 6, ii x1, ii v, ii x] N 66 [rr 6, ii x1, ii v, ii w] N := fun j => by
    induction j with
    | zero =>
      intro x hx x0 hno
      refine ⟨x, by omega, ⟨fun _ k k0 k1 => hno k k0 (by omega), fun _ => by omega⟩, fun V Qr Qt hV hW g => b_387_43 (Tr_mono _) hV hW _ _ _ _ ?_⟩
      rw [hn, if_neg (by omega)]; exact g
    | succ j ih =>
      intro x hx x0 hno
      obtain ⟨u, u1, u2, u3⟩ := q_388 (N := N) (k := x) (v := v) (by omega)
      by_cases c : u = 1
      · refine ⟨x, by omega, ⟨fun e => by omega, fun h => absurd (u2.1 c) (h x x0 (by omega))⟩, fun V Qr Qt hV hW g => b_387_43 (Tr_mono _) hV hW _ _ _ _ ?_⟩
        rw [hn, if_pos (by omega)]
        refine Ex_le (d := 1) (by decide) u3 _ _ (ri_i ?_)
        rw [if_neg (by omega)]; exact g
      · obtain ⟨w, w1, w2, w3⟩ := ih (x + 1) (by omega) (by omega) (fun k k0 k1 => by
          by_cases e : k = x
          · rw [e]; exact fun h => c (u2.2 h)
          · exact hno k k0 (by omega))
        refine ⟨w, w1, w2, RC_tr (fun V Qr Qt hV hW g => b_387_43 (Tr_mono _) hV hW _ _ _ _ ?_) w3⟩
        rw [hn, if_pos (by omega)]
        refine Ex_le (d := 1) (by decide) u3 _ _ (ri_i ?_)
        rw [if_pos (by rcases u1 with e | e; exact e; exact absurd e c), w32_id (x := x + 1) (by omega) (by omega)]; exact g
  exact l n.toNat 0 (by omega) (by decide) (fun k k0 k1 => by omega)
/-- chains of X's states -/
def BKT (M : mm_) (n : Int) : Prop := (∀ k, 0 ≤ k → k < n → M 30 k = lsi (fun i => an_ (M 29 i) 1023) (an_ (M 29 k) 1023) k.toNat) ∧ ∀ b, 0 ≤ b → b < 1024 → M 31 b = lsi (fun i => an_ (M 29 i) 1023) b n.toNat
/-- X's packed states -/
def PKS (M : mm_) (Ls : Int → List Int) (n : Int) : Prop := ∀ k, 0 ≤ k → k < n → RDL (M 27) (1100 * k) (Ls k) ∧ M 28 k = (Ls k).length ∧ M 29 k = hshL (Ls k) ∧ (Ls k).length ≤ 1020
/-- X: whether two states are alike -/
theorem x_60l [Inhabited fz_] {Lk Lx : List Int} (hk : 0 ≤ k ∧ k < 201) (hx : 0 ≤ x ∧ x < 201) (rk : RDL (M 27) (1100 * k) Lk) (rx : RDL (M 27) (1100 * x) Lx) (h28 : M 28 k = Lk.length) (hl : Lk.length ≤ 1020) (he : Lk.length = Lx.length) :
    ∃ y : Bool, (y = true ↔ Lk = Lx) ∧ ∀ (V : vv_) (Qr : qr_) (Qt : qt_), Cl_ wd0 (Tr_ wd0 pg0 0) V Qr Qt m_46 → Wk_ V → (y = true → Qr [.inl x] M) → (y = false → V 16 [rr 0, ii k, ii (M 30 x), none, none] [] M) → V 60 [rr 0, ii k, ii x, ii 1, ii 0] [] M := by
  have l : ∀ (n : Nat) (i : Int), i + n = Lk.length → 0 ≤ i → ∃ y : Bool, (y = true ↔ ∀ j, i ≤ j → j < Lk.length → M 27 (1100 * x + j) = M 27 (1100 * k + j)) ∧ ∀ (V : vv_) (Qr : qr_) (Qt : qt_), Cl_ wd0 (Tr_ wd0 pg0 0) V Qr Qt m_46 → Wk_ V → (y = true → Qr [.inl x] M) → (y = false → V 16 [rr 0, ii k, ii (M 30 x), none, none] [] M) → V 60 [rr 0, ii k, ii x, ii 1, ii i] [] M := fun n => by
    induction n with
    | zero =>
      intro i hi i0
      refine ⟨true, ⟨fun _ j j0 j1 => by omega, fun _ => rfl⟩, fun V Qr Qt hV hW g _ => b_46_60 (Tr_mono _) hV hW _ _ _ _ _ ⟨hk, ?_⟩⟩
      rw [h28, if_neg (by omega), if_neg (by decide)]; exact g rfl
    | succ n ih =>
      intro i hi i0
      have wk : w32 (w32 (1100 * k) + i) = 1100 * k + i := by rw [w32_id (x := 1100 * k) (by omega) (by omega), w32_id (by omega) (by omega)]
      have wx : w32 (w32 (1100 * x) + i) = 1100 * x + i := by rw [w32_id (x := 1100 * x) (by omega) (by omega), w32_id (by omega) (by omega)]
      have wi : w32 (i + 1) = i + 1 := w32_id (by omega) (by omega)
      by_cases c : M 27 (1100 * x + i) = M 27 (1100 * k + i)
      · obtain ⟨y, y1, y2⟩ := ih (i + 1) (by omega) (by omega)
        refine ⟨y, ?_, fun V Qr Qt hV hW g g' => b_46_60 (Tr_mono _) hV hW _ _ _ _ _ ⟨hk, ?_⟩⟩
        · rw [y1]
          exact ⟨fun h j j0 j1 => by by_cases e : j = i; rw [e]; exact c; exact h j (by omega) j1, fun h j j0 j1 => h j (by omega) j1⟩
        · rw [h28, if_pos (by omega), if_neg (by decide), wk, wx, if_pos c, wi]
          exact ⟨by omega, by omega, y2 V Qr Qt hV hW g g'⟩
      · refine ⟨false, ⟨fun h => by simp at h, fun h => absurd (h i (Int.le_refl _) (by omega)) c⟩, fun V Qr Qt hV hW _ g' => b_46_60 (Tr_mono _) hV hW _ _ _ _ _ ⟨hk, ?_⟩⟩
        rw [h28, if_pos (by omega), if_neg (by decide), wk, wx, if_neg c, wi]
        refine ⟨by omega, by omega, b_46_60 (Tr_mono _) hV hW _ _ _ _ _ ⟨hk, ?_⟩⟩
        rw [h28]
        by_cases c2 : i + 1 < (Lk.length : Int)
        · rw [if_pos c2, if_pos rfl, if_pos rfl]; exact ⟨hx, g' rfl⟩
        · rw [if_neg c2, if_pos rfl]; exact ⟨hx, g' rfl⟩
  obtain ⟨y, y1, y2⟩ := l Lk.length 0 (by omega) (by decide)
  refine ⟨y, ?_, y2⟩
  rw [y1]
  refine ⟨fun h => (RDL_eq Lx Lk (1100 * x) (1100 * k) rx rk he.symm (fun i i0 i1 => h i i0 (by omega))).symm, fun h j j0 j1 => ?_⟩
  subst h
  exact RDL_ev _ _ _ rx rk j j0 j1
theorem x_46 [Inhabited fz_] {Ls : Int → List Int} {Lk : List Int} (hn : 0 ≤ n ∧ n ≤ 200) (hb : BKT M n) (hp : PKS M Ls n) (rk : RDL (M 27) (1100 * n) Lk) (h28 : M 28 n = Lk.length) (h29 : M 29 n = hshL Lk) (hl : Lk.length ≤ 1020) :
    ∃ w, (w = -1 ↔ ∀ i, 0 ≤ i → i < n → Ls i ≠ Lk) ∧ Ex_ 1 46 [.inr (.inr 0), .inl n] M [.inl w] M := by
  have bh := an1023 (M 29 n)
  have l : ∀ (m : Nat), (m : Int) ≤ n → (∀ i, (m : Int) ≤ i → i < n → Ls i ≠ Lk) → ∃ w, (w = -1 ↔ ∀ i, 0 ≤ i → i < n → Ls i ≠ Lk) ∧ ∀ (V : vv_) (Qr : qr_) (Qt : qt_), Cl_ wd0 (Tr_ wd0 pg0 0) V Qr Qt m_46 → Wk_ V → Qr [.inl w] M → V 16 [rr 0, ii n, ii (lsi (fun i => an_ (M 29 i) 1023) (an_ (M 29 n) 1023) m), none, none] [] M := fun m => by
    induction m using Nat.strongRecOn with
    | _ m ih =>
    intro hm hno
    rcases lsi_lt (g := fun i => an_ (M 29 i) 1023) (b := an_ (M 29 n) 1023) m with e | ⟨e0, e1, e2⟩
    · refine ⟨-1, ⟨fun _ i i0 i1 hi => ?_, fun _ => rfl⟩, fun V Qr Qt hV hW g => b_46_16 (Tr_mono _) hV hW _ _ _ ?_⟩
      · by_cases c : (m : Int) ≤ i
        · exact hno i c i1 hi
        · refine lsi_no (g := fun i => an_ (M 29 i) 1023) (b := an_ (M 29 n) 1023) m i (by omega) (by omega) ?_
          show an_ (M 29 i) 1023 = an_ (M 29 n) 1023
          rw [(hp i i0 i1).2.2.1, h29, hi]
      · rw [e, if_pos rfl]; exact g
    · generalize hx : lsi (fun i => an_ (M 29 i) 1023) (an_ (M 29 n) 1023) m = x at e0 e1 e2
      obtain ⟨rx, x28, x29, xl⟩ := hp x e0 (by omega)
      have stp : Ls x ≠ Lk → ∃ w, (w = -1 ↔ ∀ i, 0 ≤ i → i < n → Ls i ≠ Lk) ∧ ∀ (V : vv_) (Qr : qr_) (Qt : qt_), Cl_ wd0 (Tr_ wd0 pg0 0) V Qr Qt m_46 → Wk_ V → Qr [.inl w] M → V 16 [rr 0, ii n, ii (M 30 x), none, none] [] M := fun hne => by
        have c30 := hb.1 x e0 (by omega)
        have e2' : an_ (M 29 x) 1023 = an_ (M 29 n) 1023 := e2
        rw [e2'] at c30
        rw [c30]
        refine ih x.toNat (by omega) (by omega) (fun i i0 i1 => ?_)
        by_cases c : (m : Int) ≤ i
        · exact hno i c i1
        · by_cases cx : i = x
          · rw [cx]; exact hne
          · intro hi
            refine lsi_no (g := fun i => an_ (M 29 i) 1023) (b := an_ (M 29 n) 1023) m i (by rw [hx]; omega) (by omega) ?_
            show an_ (M 29 i) 1023 = an_ (M 29 n) 1023
            rw [(hp i (by omega) i1).2.2.1, h29, hi]
      by_cases ch : M 29 x = M 29 n
      · by_cases cs : M 28 x = M 28 n
        · obtain ⟨y, y1, y2⟩ := x_60l (k := n) (x := x) (by omega) (by omega) rk rx h28 hl (by omega)
          by_cases cy : y = true
          · refine ⟨x, ⟨fun e => by omega, fun h => absurd (y1.1 cy).symm (h x e0 (by omega))⟩, fun V Qr Qt hV hW g => b_46_16 (Tr_mono _) hV hW _ _ _ ?_⟩
            rw [if_neg (by omega), if_pos ch, if_pos cs]
            exact ⟨by omega, by omega, by omega, by omega, y2 V Qr Qt hV hW (fun _ => g) (fun e => by rw [cy] at e; exact absurd e (by decide))⟩
          · obtain ⟨w, w1, w2⟩ := stp (fun h => cy (y1.2 h.symm))
            refine ⟨w, w1, fun V Qr Qt hV hW g => b_46_16 (Tr_mono _) hV hW _ _ _ ?_⟩
            rw [if_neg (by omega), if_pos ch, if_pos cs]
            exact ⟨by omega, by omega, by omega, by omega, y2 V Qr Qt hV hW (fun e => absurd e cy) (fun _ => w2 V Qr Qt hV hW g)⟩
        · obtain ⟨w, w1, w2⟩ := stp (fun h => cs (by rw [x28, h28, h]))
          refine ⟨w, w1, fun V Qr Qt hV hW g => b_46_16 (Tr_mono _) hV hW _ _ _ ?_⟩
          rw [if_neg (by omega), if_pos ch, if_neg cs]
          refine ⟨by omega, by omega, by omega, by omega, b_46_60 (Tr_mono _) hV hW _ _ _ _ _ ⟨by omega, ?_⟩⟩
          have := w2 V Qr Qt hV hW g
          by_cases c2 : 0 < M 28 n
          · rw [if_pos c2, if_pos rfl, if_pos rfl]; exact ⟨by omega, this⟩
          · rw [if_neg c2, if_pos rfl]; exact ⟨by omega, this⟩
      · obtain ⟨w, w1, w2⟩ := stp (fun h => ch (by rw [x29, h29, h]))
        refine ⟨w, w1, fun V Qr Qt hV hW g => b_46_16 (Tr_mono _) hV hW _ _ _ ?_⟩
        rw [if_neg (by omega), if_neg ch]
        refine ⟨by omega, by omega, b_46_60 (Tr_mono _) hV hW _ _ _ _ _ ⟨by omega, ?_⟩⟩
        have := w2 V Qr Qt hV hW g
        by_cases c2 : 0 < M 28 n
        · rw [if_pos c2, if_pos rfl, if_pos rfl]; exact ⟨by omega, this⟩
        · rw [if_neg c2, if_pos rfl]; exact ⟨by omega, this⟩
  obtain ⟨w, w1, w2⟩ := l n.toNat (by omega) (fun i i0 i1 => by omega)
  refine ⟨w, w1, fun Qr Qt g => t_46 fun V hV hW => b_46_0 (Tr_mono _) hV hW _ _ ⟨by omega, bh, ?_⟩⟩
  rw [hb.2 _ bh.1 bh.2]; exact w2 V Qr Qt hV hW g
end LIa
end T402_li

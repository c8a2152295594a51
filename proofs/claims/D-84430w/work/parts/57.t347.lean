section T347_el
/-! the run: an e (X 15 | Q 339) -/
section ELa
variable {z : Int} {M N : mm_} {A B A' B' : Int → Int} {n m e k t v w a b o i j c c' f fe T p q : Int} {s r s' : List Int} {x : Int × Int}
theorem T_b [Inhabited fz_] (hC : EVC z M N k T) : (0 ≤ T ∧ T < 6) ∧ N 173 T ≤ 3 := by
  obtain ⟨hR, hk, _, hT, hP, _⟩ := hC
  have ty := (hR.1.2.2.1 k hk.1 hk.2).2.1.2.1
  rw [hT] at ty
  have p19 := hP.1.2.2
  rw [tbN_6 (by decide)] at p19
  have pt := hP.2.1 T ty.1 (by rw [tbN_6 (by decide)]; exact ty.2)
  unfold PTY at pt
  rw [tbN_r (q := 173) (by decide) (by decide)] at pt
  exact ⟨by (clear hR hk hT hP pt; omega), by have := pt.2.2.1.2.2.2.1; omega⟩
theorem ev_x [Inhabited fz_] (hC : EVC z M N k T) (hts : ts_ (up_ (tbN N) 6 61 T) x s s') (hl : s'.length ≤ 58) (hs : s.length ≤ 58) (hp : 0 ≤ p ∧ p ≤ 6) (hc : 0 ≤ c ∧ c ≤ 11900) (hK : KS p A B s) (hS : stX (swc M) c (en_1 (tbN N) x)) : ES1 M N k p c x A B s s' ∧ x.1 ≠ 0 := by
  unfold ts_ at hts
  rw [up_at, up_ne (by decide), up_ne (by decide), up_ne (by decide), up_ne (by decide), tbN_r (q := 173) (by decide) (by decide), tbN_r (q := 171) (by decide) (by decide), tbN_r (q := 183) (by decide) (by decide), tbN_r (q := 182) (by decide) (by decide)] at hts
  rcases hts with ⟨h1, t, h2, h3, h4⟩ | ⟨h1, h2, h3, h4⟩ | ⟨h1, h4⟩ | ⟨h1, h2, h3, h4⟩ | ⟨h1, h2, h3, h5, h4⟩ | ⟨h1, h2, h3, h5, r, h6, h4⟩ | ⟨h1, r, h6, h4⟩ | ⟨h1, t, r, h6, h4⟩ | ⟨h1, h2, h7, h8, r, h6, h4⟩
  · subst h4; exact ⟨ev_1 h1 hK (by simp only [List.length_cons] at hl; omega) hp hc h3 hC hS, by omega⟩
  · subst h4; exact ⟨ev_5 h1 ⟨h2, h3⟩ hK (by simp only [List.length_cons] at hl; omega) hp hc hC hS, by (clear hC hs hp hc hK hS h2 h3 hl; lia)⟩
  · subst h4; exact ⟨ev_8 h1 hK (by simp only [List.length_cons] at hl; (clear hC hp hc hK hS h1; lia)) hp hc hC hS, by (clear hC hs hp hc hK hS hl; lia)⟩
  · subst h4; exact ⟨ev_10 h1 ⟨h2, by have := (T_b hC).2; (clear hC hs hp hc hK hS h1 h2 hl; omega)⟩ hK (by simp only [List.length_cons] at hl; omega) hp hc hC hS, by (clear hC hs hp hc hK hS h2 h3 hl; lia)⟩
  · subst h4; exact ⟨ev_11 h1 ⟨h2, h3⟩ hK (by simp only [List.length_cons] at hl; omega) hp hc hC hS, by (clear hC hs hp hc hK hS h2 h3 h5 hl; lia)⟩
  · subst h4; subst h6; exact ⟨ev_12 h1 ⟨h2, h3⟩ h5 hK hs hp hc hC hS, by omega⟩
  · subst h4; subst h6; exact ⟨ev_13 h1 hK hs hp hc hC hS, by (clear hC hp hc hS hl hs hK; lia)⟩
  · subst h4; subst h6
    have := ev_b (x := x) (by omega) (fun h => by omega) hK hs hp hc hC hS
    rw [if_neg (by omega)] at this
    exact ⟨this, by omega⟩
  · subst h4; subst h6
    exact ⟨ev_b (x := x) ⟨h1, h2⟩ (fun h => by unfold rw_; rw [if_pos (by omega)]; exact ⟨rfl, rfl⟩) hK hs hp hc hC hS, by omega⟩
theorem stX_ap [Inhabited fz_] : ∀ (l1 l2 : List Int), stX M c (l1 ++ l2) → stX M (c + l2.length) l1 ∧ stX M c l2
  | [], l2, h => ⟨trivial, h⟩
  | y :: l1, l2, h => by
    have ⟨a, b⟩ := stX_ap l1 l2 h.2
    refine ⟨⟨?_, a⟩, b⟩
    have := h.1
    rw [show l1.append l2 = l1 ++ l2 from rfl, List.length_append] at this
    rw [show c + (l2.length : Int) + (l1.length : Int) = c + ((l1.length + l2.length : Nat) : Int) by omega]; exact this
theorem ty_len [Inhabited fz_] {Mq : mm_} : ts_ Mq x s s' → (s'.length : Int) = s.length + (if x.1 ≤ 11 then 1 else if x.1 ≤ 14 then 0 else -1) := by
  intro h
  unfold ts_ at h
  rcases h with ⟨h1, t, h2, h3, h4⟩ | ⟨h1, h2, h3, h4⟩ | ⟨h1, h4⟩ | ⟨h1, h2, h3, h4⟩ | ⟨h1, h2, h3, h5, h4⟩ | ⟨h1, h2, h3, h5, r, h6, h4⟩ | ⟨h1, r, h6, h4⟩ | ⟨h1, t, r, h6, h4⟩ | ⟨h1, h2, h7, h8, r, h6, h4⟩
  · subst h4; rw [if_pos (by omega)]; simp only [List.length_cons]; omega
  · subst h4; rw [if_pos (by omega)]; simp only [List.length_cons]; omega
  · subst h4; rw [if_pos (by omega)]; simp only [List.length_cons]; omega
  · subst h4; rw [if_pos (by omega)]; simp only [List.length_cons]; omega
  · subst h4; rw [if_pos (by omega)]; simp only [List.length_cons]; omega
  · subst h4; subst h6; rw [if_neg (by omega), if_pos (by omega)]; simp only [List.length_cons]; omega
  · subst h4; subst h6; rw [if_neg (by omega), if_pos (by omega)]; simp only [List.length_cons]; (clear h1; lia)
  · subst h4; subst h6; rw [if_neg (c := x.1 ≤ 11) (by omega), if_neg (c := x.1 ≤ 14) (by omega)]; simp only [List.length_cons]; omega
  · subst h4; subst h6; rw [if_neg (c := x.1 ≤ 11) (by omega), if_neg (c := x.1 ≤ 14) (by omega)]; simp only [List.length_cons]; omega
theorem ty_58 [Inhabited fz_] {Mq : mm_} {st : List Int} (h6 : st.length = 6) : ∀ (l : List (Int × Int)) (s s2 : List Int), ty_ Mq 64 l [] s → ty_ Mq 64 l st s2 → ty_ Mq 58 l [] s ∧ (s2.length : Int) = s.length + 6
  | [], s, s2, h, g => by
    have h : s = [] := h
    have g : s2 = st := g
    subst h; subst g
    exact ⟨rfl, by rw [h6]; rfl⟩
  | x :: l, s, s2, ⟨s1, a1, a2, a3⟩, ⟨s3, b1, b2, b3⟩ => by
    obtain ⟨i1, i2⟩ := ty_58 h6 l s1 s3 a1 b1
    have e1 := ty_len a2
    have e2 := ty_len b2
    exact ⟨⟨s1, i1, a2, by omega⟩, by omega⟩
theorem ty_d [Inhabited fz_] {Mq : mm_} {D : Int} (hD : 0 ≤ D) : ∀ (l : List (Int × Int)) (s : List Int), ty_ Mq D l [] s → (s.length : Int) ≤ D
  | [], s, h => by rw [show s = [] from h]; exact hD
  | x :: l, s, ⟨s1, a1, a2, a3⟩ => a3
/-- what both say of forms -/
theorem ev_l [Inhabited fz_] (hC : EVC z M N k T) (hp : 0 ≤ p ∧ p ≤ 6) (hc0 : 0 ≤ c) (hf0 : 0 ≤ f) : ∀ (l : List (Int × Int)) (s : List Int), ty_ (up_ (tbN N) 6 61 T) 58 l [] s → stF (tbN N) f l → stX (swc M) c (er_ (tbN N) l) → c + (er_ (tbN N) l).length ≤ 11900 → f + l.length ≤ 2900 →
    (∃ A' B', (∀ x1, RC 2 m_15 10 [rr 0, ii x1, rr 109, ii c, none, none] (exX M A p) 10 [rr 0, ii x1, rr 109, ii (c + (er_ (tbN N) l).length), none, none] (exX M A' (p + s.length))) ∧ (∀ x2, RC 3 m_339 12 [rr 6, ii k, ii x2, ii f] (exQ N B 0 0) 12 [rr 6, ii k, ii x2, ii (f + l.length)] (exQ N B' s.length 0)) ∧ KS p A' B' s ∧ ∀ j, j < p → A' j = A j)
    ∨ (∃ e A' n' B' m' i, (e = 1 ∨ e = 2) ∧ (0 ≤ m' ∧ m' ≤ 100) ∧ (0 ≤ i ∧ i ≤ 2900) ∧ (∀ x1, XT 2 m_15 10 [rr 0, ii x1, rr 109, ii c, none, none] (exX M A p) (up_ (exX M A' n') 0 49 e)) ∧ (∀ x2, RC 3 m_339 12 [rr 6, ii k, ii x2, ii f] (exQ N B 0 0) 12 [rr 6, ii k, ii x2, ii i] (exQ N B' m' e)))
  | [], s, ht, _, _, hc, hf => by
    have ht : s = [] := ht
    subst ht
    refine .inl ⟨A, B, fun x1 => ?_, fun x2 => ?_, ⟨fun j _ j1 => absurd j1 (Nat.not_lt_zero j), trivial⟩, fun _ _ => rfl⟩
    · rw [show c + ((er_ (tbN N) []).length : Int) = c from Int.add_zero c, show p + ((([] : List Int).length : Nat) : Int) = p from Int.add_zero p]; exact RC_rf
    · rw [show f + ((([] : List (Int × Int)).length : Nat) : Int) = f from Int.add_zero f]; exact RC_rf
  | x :: l, s, ⟨s1, t1, t2, t3⟩, hF, hX, hc, hf => by
    have hX : stX (swc M) c (en_1 (tbN N) x ++ er_ (tbN N) l) := hX
    have el : ((er_ (tbN N) (x :: l)).length : Int) = (er_ (tbN N) l).length + (en_1 (tbN N) x).length := by show (((en_1 (tbN N) x ++ er_ (tbN N) l).length : Nat) : Int) = _; rw [List.length_append]; (clear hC hp hc0 hf0 t1 t2 t3 hF hc hf hX; lia)
    obtain ⟨x1, x2⟩ := stX_ap _ _ hX
    obtain ⟨f1, f2, f3⟩ := hF
    rw [tbN_r (q := 227) (by decide) (by decide)] at f1
    rw [tbN_r (q := 228) (by decide) (by decide)] at f2
    simp only [List.length_cons] at hf
    rcases ev_l hC hp hc0 hf0 l s1 t1 f3 x2 (by omega) (by omega) with ⟨A1, B1, xr, qr, ks, lo⟩ | ⟨e, A1, n1, B1, m1, i1, he, hm, hi, xt, qt⟩
    · obtain ⟨es, hne⟩ := ev_x (c := c + (er_ (tbN N) l).length) hC t2 (by (clear hC hp hc0 hf0 t1 t2 hc hf hX el x1 x2 f1 f2 f3 xr qr ks lo; lia)) (by have := ty_d (by decide) l s1 t1; omega) hp (by omega) ks x1
      have fl : f + ((x :: l).length : Int) = f + l.length + 1 := by simp only [List.length_cons]; omega
      have qs : ∀ (e m' : Int) (B' : Int → Int), Ex_ 3 340 [.inr (.inr 6), .inl k, .inl x.1, .inl x.2] (exQ N B1 s1.length 0) [] (exQ N B' m' e) → ∀ x2, RC 3 m_339 12 [rr 6, ii k, ii x2, ii f] (exQ N B 0 0) 12 [rr 6, ii k, ii x2, ii (f + l.length + 1)] (exQ N B' m' e) := fun e m' B' hq x2 => RC_tr (qr x2) (fun V Qr Qt hV hW g => b_339_12 (Tr_mono _) hV hW _ _ _ _ ⟨by (clear hC hp hc0 t1 t2 t3 hc hX el x1 f1 f2 f3 xr qr ks lo es hne hq hV hW g; omega), by
        rw [exQ_r (r := 227) (by decide) (by decide), exQ_r (r := 228) (by decide) (by decide), f1, f2, if_neg hne, exQ_149, if_pos rfl, w32_id (x := f + l.length + 1) (by (clear hC hp hc0 t1 t2 t3 hc hf hX el x1 f1 f2 f3 xr qr ks lo es hne hq hV hW g; lia)) (by omega)]
        exact ⟨by omega, by omega, hq _ _ (rv_i g)⟩⟩)
      rcases es with ⟨A2, B2, y1, y2, y3, y4⟩ | ⟨e, A2, n2, B2, m2, he, hm, y1, y2⟩
      · refine .inl ⟨A2, B2, fun x1 => ?_, fun x2 => ?_, y3, fun j hj => (y4 j hj).trans (lo j hj)⟩
        · rw [el, ← Int.add_assoc]; exact RC_tr (xr x1) (y1 x1)
        · rw [fl]; exact qs 0 _ _ y2 x2
      · exact .inr ⟨e, A2, n2, B2, m2, f + l.length + 1, he, hm, by (clear hC hp hc0 t1 t2 t3 hc hX el x1 x2 f1 f2 f3 xr qr ks lo hne qs he hm y1 y2; omega), fun x1 V Qr Qt hV hW g => xr x1 V Qr Qt hV hW (y1 x1 V Qr Qt hV hW g), qs e m2 B2 y2⟩
    · exact .inr ⟨e, A1, n1, B1, m1, i1, he, hm, hi, xt, qt⟩
/-- an e: X goes on behind it with its value on the stack, or throws; Q gives the value or the error -/
def EVR (M N : mm_) (k p c c' f t : Int) (A : Int → Int) : Prop :=
  (∃ A' B' v, (∀ x1, RC 2 m_15 10 [rr 0, ii x1, rr 109, ii c, none, none] (exX M A p) 10 [rr 0, ii x1, rr 109, ii c', none, none] (exX M A' (p + 1))) ∧ Ex_ 4 339 [.inr (.inr 6), .inl k, .inl f] N [.inl v] (exQ N B' 1 0) ∧ A' p = v ∧ ((t = 2 → BV v) ∧ R32 v) ∧ ∀ j, j < p → A' j = A j)
  ∨ (∃ e A' n' B' m' v, (e = 1 ∨ e = 2) ∧ (∀ x1, XT 2 m_15 10 [rr 0, ii x1, rr 109, ii c, none, none] (exX M A p) (up_ (exX M A' n') 0 49 e)) ∧ Ex_ 4 339 [.inr (.inr 6), .inl k, .inl f] N [.inl v] (exQ N B' m' e))
theorem exQ_0 [Inhabited fz_] : up_ (up_ N 6 148 0) 6 149 0 = exQ N (N 243) 0 0 := by unfold exQ; rw [wr_id]
theorem ev_e [Inhabited fz_] (hC : EVC z M N k T) (hE : EXP (swc M) (tbN N) T c c' f fe t) (hp : 0 ≤ p ∧ p ≤ 6) (hc : c' ≤ 11900) (hf : fe ≤ 2900) : EVR M N k p c c' f t A := by
  obtain ⟨l, e1, e2, e3, e4, e5, e6, e7, e8⟩ := hE
  obtain ⟨g1, _, g3⟩ := e1
  rw [tbN_r (q := 227) (by decide) (by decide)] at g1
  have t0 := e8 [] (by decide)
  have t6 := e8 [0, 0, 0, 0, 0, 0] (by decide)
  obtain ⟨ty, _⟩ := ty_58 (by rfl) l _ _ t0 t6
  have q0 : ∀ (Qr : qr_) (Qt : qt_), (∀ (V : vv_), Cl_ wd0 (Tr_ wd0 pg0 3) V Qr Qt m_339 → Wk_ V → V 12 [rr 6, ii k, ii f, ii f] [] (exQ N (N 243) 0 0)) → Tr_ wd0 pg0 4 339 [.inr (.inr 6), .inl k, .inl f] N Qr Qt := fun Qr Qt h => t_339 fun V hV hW => b_339_0 (Tr_mono _) hV hW _ _ _ (by rw [exQ_0]; exact h V hV hW)
  rcases ev_l (A := A) (B := N 243) hC hp e6 e5 l [t] ty g3 e2 (by (clear hC hp hf e2 e4 e5 e6 e7 e8 g1 g3 t0 t6 ty q0; omega)) (by omega) with ⟨A', B', x1, q1, ks, lo⟩ | ⟨e, A', n', B', m', i, he, hm, hi, x1, q1⟩
  · refine .inl ⟨A', B', B' 0, fun y => ?_, fun Qr Qt g => q0 Qr Qt fun V hV hW => q1 f V Qr Qt hV hW ?_, ?_, ks.2.1, lo⟩
    · have := x1 y; rw [← e3] at this; exact this
    · have g9 : V 12 [rr 6, ii k, ii f, ii (f + l.length)] [] (exQ N B' 1 0) := by
        refine b_339_12 (Tr_mono _) hV hW _ _ _ _ ⟨by (clear hC hp hc e2 e3 e6 e7 e8 g1 g3 t0 t6 ty q0 x1 q1 ks lo g hV hW; omega), ?_⟩
        rw [exQ_r (r := 227) (by decide) (by decide), g1, if_pos rfl, exQ_148, exQ_243, if_neg (by decide), w32_id (x := 1 - 1) (by decide) (by decide)]
        exact ⟨by decide, g⟩
      exact g9
    · have := ks.1 0 (Nat.le_refl 0) Nat.zero_lt_one
      rw [show p + ((0 : Nat) : Int) = p from Int.add_zero p] at this; exact this
  · have bt : ∃ v, ∀ (Qr : qr_) (Qt : qt_) (V : vv_), Cl_ wd0 (Tr_ wd0 pg0 3) V Qr Qt m_339 → Wk_ V → Qr [.inl v] (exQ N B' m' e) → V 12 [rr 6, ii k, ii f, ii i] [] (exQ N B' m' e) := by
      refine ⟨if m' ≤ 0 then 0 else B' (m' - 1), fun Qr Qt V hV hW g => b_339_12 (Tr_mono _) hV hW _ _ _ _ ⟨by (clear hC hp hc hf e2 e3 e4 e5 e6 e7 e8 g1 g3 t0 t6 ty q0 he hm x1 q1 hV hW g; omega), ?_⟩⟩
      rw [exQ_148, exQ_149, exQ_243, if_neg (c := e = 0) (by omega)]
      have : (if m' ≤ 0 then Qr [Sum.inl 0] (exQ N B' m' e) else (0 ≤ w32 (m' - 1) ∧ w32 (m' - 1) < 1202) ∧ Qr [Sum.inl (B' (w32 (m' - 1)))] (exQ N B' m' e)) := by
        by_cases c : m' ≤ 0
        · rw [if_pos c] at g ⊢; exact g
        · rw [if_neg c] at g ⊢; rw [w32_id (x := m' - 1) (by omega) (by omega)]; exact ⟨by omega, g⟩
      split <;> exact this
    obtain ⟨v, bt⟩ := bt
    exact .inr ⟨e, A', n', B', m', v, he, x1, fun Qr Qt g => q0 Qr Qt fun V hV hW => q1 f V Qr Qt hV hW (bt Qr Qt V hV hW g)⟩
end ELa
end T347_el
section T348_ty
/-! the run: BOOLs are 0 or 1 -/
def SGV (N : mm_) (sg : Int) (h : Int → Int) : Prop := ((0 ≤ sg ∧ sg < 20 ∧ sg < N 6 17) ∨ (100 ≤ sg ∧ sg < 103)) ∧ (sg < 20 → ∀ v, 0 ≤ v → v < 3 → v < N 156 sg → N 157 (3 * sg + v) = 2 → BV (h v)) ∧ ∀ v, 0 ≤ v → v < 3 → R32 (h v)
def TIN (N : mm_) (g : Int → Int) : Prop := (∀ u, 0 ≤ u → u < N 171 (g 1) → N 182 (8 * g 1 + u) = 2 → ∀ i, 0 ≤ i → i < (if 1 < N 183 (8 * g 1 + u) then N 183 (8 * g 1 + u) else 1) → 0 ≤ N 184 (8 * g 1 + u) + i → N 184 (8 * g 1 + u) + i < 16 → BV (g (6 + (N 184 (8 * g 1 + u) + i))))
  ∧ ∀ q, 0 ≤ q → q < 6 → q < g 25 → SGV N (g (26 + 5 * q)) (fun v => g (28 + 5 * q + v))
def TRO (N : mm_) (g : Int → Int) : Prop := ∀ q, 0 ≤ q → q < 6 → q < g 0 → SGV N (g (1 + 7 * q)) (fun v => g (5 + 7 * q + v))
def TYA (N : mm_) : Prop := (∀ k, 0 ≤ k → k < 12 → k < N 239 0 → TIN N (fun j => N 239 (sB k + j))) ∧ (∀ r, 0 ≤ r → r < 10 → r < N 6 18 → TRO N (fun j => N 239 (sR r + j))) ∧ RG9 N
/-- the tables that it reads -/
def TYT (N N' : mm_) : Prop := (∀ r : Nat, r ∈ [156, 157, 171, 182, 183, 184] → N' r = N r) ∧ N' 6 18 = N 6 18 ∧ N' 6 17 = N 6 17
section TYa
variable {z : Int} {M N N' N1 : mm_} {g g' h h' : Int → Int} {k r sg sn rc p a b c t T v : Int}
theorem TYT_rf [Inhabited fz_] : TYT N N := ⟨fun _ _ => rfl, rfl, rfl⟩
theorem TYT_tr [Inhabited fz_] (h : TYT N N1) (h' : TYT N1 N') : TYT N N' := ⟨fun r hr => (h'.1 r hr).trans (h.1 r hr), h'.2.1.trans h.2.1, h'.2.2.trans h.2.2⟩
theorem TYT_Q [Inhabited fz_] (h : QRF N N') : TYT N N' := ⟨fun r hr => h.1 r (fun e => by revert hr e; simp only [quL, List.mem_cons, List.not_mem_nil, or_false]; omega), h.2 18 (by decide), h.2 17 (by decide)⟩
theorem SGV_c [Inhabited fz_] (hs : SGV N sg h) (ht : TYT N N') (hh : ∀ v, 0 ≤ v → v < 3 → h' v = h v) : SGV N' sg h' := by
  unfold SGV at hs ⊢
  rw [ht.1 156 (by decide), ht.1 157 (by decide), ht.2.2]
  exact ⟨hs.1, fun e v v0 v3 v1 v2 => by rw [hh v v0 v3]; exact hs.2.1 e v v0 v3 v1 v2, fun v v0 v3 => by rw [hh v v0 v3]; exact hs.2.2 v v0 v3⟩
theorem TIN_c [Inhabited fz_] (hs : TIN N g) (ht : TYT N N') (hh : ∀ j, 0 ≤ j → j < 56 → g' j = g j) : TIN N' g' := by
  unfold TIN at hs ⊢
  rw [ht.1 171 (by decide), ht.1 182 (by decide), ht.1 183 (by decide), ht.1 184 (by decide), hh 1 (by decide) (by decide), hh 25 (by decide) (by decide)]
  exact ⟨fun u u0 u1 u2 i i0 i1 i2 i3 => by rw [hh _ (by omega) (by omega)]; exact hs.1 u u0 u1 u2 i i0 i1 i2 i3, fun q q0 q1 q2 => by
    rw [hh _ (by (clear hs ht hh q2; lia)) (by omega)]; exact SGV_c (hs.2 q q0 q1 q2) ht (fun v v0 v1 => hh _ (by omega) (by omega))⟩
theorem TIN_q [Inhabited fz_] (hs : TIN N g) (ht : TYT N N') (h1 : g' 1 = g 1) (hc : ∀ i, 0 ≤ i → i < 16 → g' (6 + i) = g (6 + i)) (hq : ∀ q, 0 ≤ q → q < 6 → q < g' 25 → SGV N' (g' (26 + 5 * q)) (fun v => g' (28 + 5 * q + v))) : TIN N' g' := by
  unfold TIN at hs ⊢
  rw [ht.1 171 (by decide), ht.1 182 (by decide), ht.1 183 (by decide), ht.1 184 (by decide), h1]
  exact ⟨fun u u0 u1 u2 i i0 i1 i2 i3 => by rw [hc _ i2 i3]; exact hs.1 u u0 u1 u2 i i0 i1 i2 i3, hq⟩
theorem TRO_c [Inhabited fz_] (hs : TRO N g) (ht : TYT N N') (hh : ∀ j, 0 ≤ j → j < 43 → g' j = g j) : TRO N' g' := by
  unfold TRO at hs ⊢
  rw [hh 0 (by decide) (by decide)]
  exact fun q q0 q1 q2 => by rw [hh _ (by omega) (by omega)]; exact SGV_c (hs q q0 q1 q2) ht (fun v v0 v1 => hh _ (by (clear hs ht hh q2; lia)) (by omega))
theorem TYA_c [Inhabited fz_] (hA : TYA N) (ht : TYT N N') (h : N' 239 = N 239) : TYA N' := by
  refine ⟨fun k k0 k1 k2 => ?_, fun r r0 r1 r2 => ?_, fun j => by rw [h]; exact hA.2.2 j⟩
  · rw [h] at k2 ⊢; exact TIN_c (hA.1 k k0 k1 k2) ht (fun _ _ _ => rfl)
  · rw [ht.2.1] at r2; rw [h]; exact TRO_c (hA.2.1 r r0 r1 r2) ht (fun _ _ _ => rfl)
theorem TYA_k [Inhabited fz_] (hA : TYA N) (ht : TYT N N') (hk : 0 ≤ k ∧ k < 12) (h : ∀ j, j < sB k ∨ sB k + 56 ≤ j → N' 239 j = N 239 j) (hi : TIN N' (fun j => N' 239 (sB k + j))) (hr : ∀ j, sB k ≤ j → j < sB k + 56 → R32 (N' 239 j)) : TYA N' := by
  have hB : ∀ k, sB k = 2 + 56 * k := fun _ => rfl
  have hR : ∀ k, sR k = 674 + 43 * k := fun _ => rfl
  have hBk := hB k
  refine ⟨fun i k0 k1 k2 => ?_, fun r r0 r1 r2 => ?_, fun j => ?_⟩
  · have := hB i
    by_cases c : i = k
    · rw [c]; exact hi
    · rw [h 0 (by (clear hA ht h hi hr hB hR k0 k1 k2 this c; lia))] at k2
      exact TIN_c (hA.1 i k0 k1 k2) ht (fun j j0 j1 => h _ (by omega))
  · have := hR r
    rw [ht.2.1] at r2; exact TRO_c (hA.2.1 r r0 r1 r2) ht (fun j j0 j1 => h _ (by omega))
  · by_cases c : sB k ≤ j ∧ j < sB k + 56
    · exact hr j c.1 c.2
    · rw [h j (by omega)]; exact hA.2.2 j
theorem TYA_r [Inhabited fz_] (hA : TYA N) (ht : TYT N N') (hr : 0 ≤ r ∧ r < 10) (h : ∀ j, j < sR r ∨ sR r + 43 ≤ j → N' 239 j = N 239 j) (hi : TRO N' (fun j => N' 239 (sR r + j))) (hw : ∀ j, sR r ≤ j → j < sR r + 43 → R32 (N' 239 j)) : TYA N' := by
  have hB : ∀ k, sB k = 2 + 56 * k := fun _ => rfl
  have hR : ∀ k, sR k = 674 + 43 * k := fun _ => rfl
  have hRr := hR r
  refine ⟨fun i k0 k1 k2 => ?_, fun i r0 r1 r2 => ?_, fun j => ?_⟩
  · have := hB i
    rw [h 0 (by omega)] at k2
    exact TIN_c (hA.1 i k0 k1 k2) ht (fun j j0 j1 => h _ (by omega))
  · have := hR i
    by_cases c : i = r
    · rw [c]; exact hi
    · rw [ht.2.1] at r2
      exact TRO_c (hA.2.1 i r0 r1 r2) ht (fun j j0 j1 => h _ (by (clear hA ht hr h hi hw hB hR r0 r1 r2; omega)))
  · by_cases c : sR r ≤ j ∧ j < sR r + 43
    · exact hw j c.1 c.2
    · rw [h j (by omega)]; exact hA.2.2 j
theorem TYA_ev [Inhabited fz_] (hA : TYA N) : TYA (evQ N p a b c) := TYA_c hA (TYT_Q QRF_ev) (EvQ_ev.1 239 (by decide) (by decide))
theorem TYA_lo [Inhabited fz_] (hA : TYA N) : TYA (loQ N p a b) := TYA_c hA (TYT_Q QRF_lo) (LoQ_lo.1 239 (by decide) (by decide))
theorem TYA_out [Inhabited fz_] (hA : TYA N) : TYA (outQ N sg sn) := TYA_c hA (TYT_Q QRF_out) (outQ_r (by decide) (by decide))
theorem TYA_q [Inhabited fz_] (hA : TYA N) (hk : 0 ≤ k ∧ k < 12) (h25 : 0 ≤ N 239 (sB k + 25) ∧ N 239 (sB k + 25) < 6) (h0 : k < N 239 0) (hs : SGV N sg (N 242)) (hsn : R32 sn) : TYA (qQ N k sg sn) := by
  have hP : qP N k = sB k + 26 + 5 * N 239 (sB k + 25) := rfl
  have ht := TYT_Q (N := N) (QRF_q (k := k) (sg := sg) (sn := sn))
  have at_ : ∀ j, j ≠ sB k + 25 → (j < qP N k ∨ qP N k + 5 ≤ j) → qQ N k sg sn 239 j = N 239 j := fun j h1 h2 => by
    unfold qQ; rw [upo h1, upo (by omega), upo (by omega), upo (by (clear hA hk h25 h0 hs hsn ht h1; lia)), upo (by omega), upo (by omega)]
  have e25 : qQ N k sg sn 239 (sB k + 25) = N 239 (sB k + 25) + 1 := by unfold qQ; rw [up_at]
  refine TYA_k hA ht hk (fun j hj => at_ j (by omega) (by (clear hA hk h0 hs hsn ht at_; lia))) ?_ (fun j j0 j1 => ?_)
  case refine_2 =>
    have a := hs.2.2 0 (by decide) (by decide)
    have b := hs.2.2 1 (by decide) (by decide)
    have c := hs.2.2 2 (by decide) (by decide)
    have d : R32 sg := by have := hs.1; unfold R32; (clear hA hk h25 h0 hs hsn hP ht at_ e25 j0 j1 a b c; omega)
    have e : R32 (N 239 (sB k + 25) + 1) := by unfold R32; omega
    unfold qQ
    rw [ua_, if_pos rfl]
    split
    · exact e
    · rw [up5]
      repeat' split
      all_goals first | assumption | exact hA.2.2 j
  have g := hA.1 k hk.1 hk.2 h0
  have g1 : qQ N k sg sn 239 (sB k + 1) = N 239 (sB k + 1) := at_ _ (by omega) (by (clear hA hk h0 hs hsn ht at_ g; omega))
  refine TIN_q g ht g1 (fun i i0 i1 => at_ _ (by (clear hA hk h25 h0 hs hsn hP ht at_ e25 g g1; omega)) (by omega)) (fun q q0 q1 q2 => ?_)
  rw [e25] at q2
  · by_cases c : q = N 239 (sB k + 25)
    · have p0 : sB k + (26 + 5 * q) = qP N k := by (clear hA hk h25 h0 hs hsn ht at_ g g1 q0 q1 q2; lia)
      have s0 : qQ N k sg sn 239 (sB k + (26 + 5 * q)) = sg := by rw [p0]; unfold qQ; rw [upo (by omega), upo (by omega), upo (by omega), upo (by omega), upo (by omega), up_at]
      rw [s0]
      refine SGV_c hs ht (fun v v0 v1 => ?_)
      have three : v = 0 ∨ v = 1 ∨ v = 2 := by (clear hA hk h25 h0 hs hsn hP ht at_ e25 g g1 q0 q1 q2 c p0 s0; lia)
      rcases three with e | e | e
      · rw [e, show sB k + (28 + 5 * q + 0) = qP N k + 2 by (clear hA hk h25 h0 hs hsn ht at_ g g1 q0 q1 q2 p0 s0 v0 v1 e; lia)]; unfold qQ; rw [upo (by omega), upo (by omega), upo (by omega), up_at]
      · rw [e, show sB k + (28 + 5 * q + 1) = qP N k + 3 by (clear hA hk h25 h0 hs hsn ht at_ g g1 q0 q1 q2 p0 s0 v0 v1 e; lia)]; unfold qQ; rw [upo (by omega), upo (by (clear hA hk h25 h0 hs hsn hP ht at_ e25 g g1 q0 q1 q2 c p0 s0 v0 v1 e; lia)), up_at]
      · rw [e, show sB k + (28 + 5 * q + 2) = qP N k + 4 by (clear hA hk h25 h0 hs hsn ht at_ g g1 q0 q1 q2 p0 s0 v0 v1 e; lia)]; unfold qQ; rw [upo (by omega), up_at]
    · rw [at_ (sB k + (26 + 5 * q)) (by (clear hA hk h25 h0 hs hsn hP ht at_ e25 g g1 q0 q1 q2 c; lia)) (by (clear hA hk h25 h0 hs hsn ht at_ g g1 q0 q1; omega))]
      exact SGV_c (g.2 q q0 q1 (show q < N 239 (sB k + 25) by (clear hA hk h25 h0 hs hsn hP ht at_ g g1 q0 q1; lia))) ht (fun v v0 v1 => at_ _ (by (clear hA hk h25 h0 hs hsn hP ht at_ e25 g g1 q2 c; lia)) (by (clear hA hk h25 h0 hs hsn ht at_ g g1 q0 q1; lia)))
theorem TYA_cm [Inhabited fz_] (h : RU z M N) (hA : TYA N) (hk : 0 ≤ k ∧ k < M 0 7) (hs : SGV N sg (N 242)) (hsn : R32 sn) : TYA (cmQ_ N k sg sn p) := by
  have n12 := h.1.1
  have j := (h.1.2.2.1 k hk.1 hk.2).2.2.2.2.1
  unfold cmQ_
  split
  · exact TYA_lo hA
  · exact TYA_q hA (by omega) (by omega) (by omega) hs hsn
theorem TYA_a [Inhabited fz_] (h : RU z M N) (hA : TYA N) (hs : SGV N sg (N 242)) (hsn : R32 sn) : TYA (aQ N sg sn rc) := by
  unfold aQ
  split
  · split
    · exact TYA_out (TYA_ev hA)
    · exact TYA_ev hA
  · split
    · exact TYA_lo hA
    · have n12 := h.1.1
      rename_i c
      have e : slQ N rc = fi_ (M 10) rc (M 0 7).toNat 0 := slQ_e h
      refine TYA_cm h hA ?_ hs hsn
      have := fi_rg (g := M 10) (v := rc) (n := (M 0 7).toNat)
      rw [e] at c ⊢
      omega
theorem shQ_QRF [Inhabited fz_] : QRF N (shQ N r) := by
  unfold shQ
  exact QRF_tr (QRF_tr (QRF_tr (QRF_up (by decide) (fun e => absurd e (by decide))) (QRF_up (by decide) (fun e => absurd e (by decide)))) (QRF_up (by decide) (fun e => absurd e (by decide)))) (QRF_wr (by decide) (by decide))
theorem TYA_sh [Inhabited fz_] (h : RU z M N) (hA : TYA N) (hr : 0 ≤ r ∧ r < N 6 18) (h1 : 0 < M 21 r) : TYA (shQ N r) ∧ SGV (shQ N r) (N 239 (sR r + 1)) (shQ N r 242) := by
  have h10 := h.2.1.1
  have b := (h.2.1.2.1 r hr.1 hr.2).1
  have hR : sR r = 674 + 43 * r := rfl
  have ht := TYT_Q (shQ_QRF (N := N) (r := r))
  have g := hA.2.1 r hr.1 (by (clear h hA h1 b hR ht; omega)) hr.2
  have e239 : shQ N r 239 = shF (N 239) (sR r) := by unfold shQ; rw [wr_same]
  have o1 : ∀ j, j < sR r ∨ sR r + 43 ≤ j → shF (N 239) (sR r) j = N 239 j := fun j hj => by
    unfold shF su_ flf cpf; rw [if_neg (by (clear h hA hr h1 h10 b ht g e239; lia)), if_neg (by omega), if_neg (by omega)]
  have o2 : shF (N 239) (sR r) (sR r) = N 239 (sR r) - 1 := by unfold shF su_; rw [if_pos rfl]
  have o3 : ∀ j, 1 ≤ j → j < 36 → shF (N 239) (sR r) (sR r + j) = N 239 (sR r + (j + 7)) := fun j j0 j1 => by
    unfold shF su_ flf cpf; rw [if_neg (by (clear h hA hr h1 h10 b hR ht g e239 o1 o2; lia)), if_neg (by omega), if_pos (by (clear h hA hr h1 h10 b hR ht g e239 o1 o2; omega)), show sR r + j + 7 = sR r + (j + 7) by (clear h hA hr h1 h10 b hR ht g e239 o1 o2 j0 j1; lia)]
  refine ⟨TYA_r hA ht ⟨hr.1, by omega⟩ (fun j hj => by rw [e239]; exact o1 j hj) (fun q q0 q1 q2 => ?_) (fun j j0 j1 => ?_), ?_⟩
  · have q2 : q < shQ N r 239 (sR r + 0) := q2
    rw [Int.add_zero, e239, o2] at q2
    show SGV _ (shQ N r 239 (sR r + (1 + 7 * q))) (fun v => shQ N r 239 (sR r + (5 + 7 * q + v)))
    rw [e239, o3 _ (by (clear h hA hr h1 h10 b hR ht g e239 o1 o2 o3 q2; lia)) (by omega), show 1 + 7 * q + 7 = 1 + 7 * (q + 1) by (clear h hA hr h1 h10 b hR ht g e239 o1 o2 o3 q0 q1 q2; lia)]
    refine SGV_c (g (q + 1) (by (clear h hA hr h1 h10 b hR ht g e239 o1 o2 o3 q2; omega)) (by (clear h hA hr h10 hR ht g e239 o1 o3; omega)) (show q + 1 < N 239 (sR r + 0) by rw [Int.add_zero]; (clear h hA hr h1 h10 b hR ht g e239 o1 o3 q0 q1; omega))) ht (fun v v0 v1 => ?_)
    rw [o3 _ (by (clear h hA hr h10 hR ht g e239 o1 o3; lia)) (by (clear h hA hr h10 hR ht g e239 o1 o3; omega)), show 5 + 7 * q + v + 7 = 5 + 7 * (q + 1) + v by (clear h hA hr h1 h10 b hR ht g e239 o1 o2 o3 q0 q1 q2 v0 v1; lia)]
  · rw [e239]; unfold shF su_ flf cpf
    have z0 : R32 0 := by unfold R32; (clear h hA hr h1 h10 b hR ht g e239 o1 o2 o3 j0 j1; lia)
    have z1 : R32 (N 239 (sR r) - 1) := by unfold R32; omega
    repeat' split
    all_goals first | assumption | exact hA.2.2 _
  · refine SGV_c (g 0 (by decide) (by decide) (show 0 < N 239 (sR r + 0) by rw [Int.add_zero]; (clear h hA hr h10 hR ht g e239 o1 o3; lia))) ht (fun v v0 v1 => ?_)
    have three : v = 0 ∨ v = 1 ∨ v = 2 := by (clear h hA hr h1 h10 b hR ht g e239 o1 o2 o3; lia)
    unfold shQ
    rw [wr_ne (by decide)]
    rcases three with e | e | e
    · rw [e, upo (by decide), upo (by decide), up_at]; rfl
    · rw [e, upo (by decide), up_at]; rfl
    · rw [e, up_at]; rfl
theorem TYA_l [Inhabited fz_] (h : RU z M N) (hA : TYA N) (hr : 0 ≤ r ∧ r < N 6 18) (h1 : 0 < M 21 r) : TYA (lQ N r) := TYA_a (RU_sh h hr h1) (TYA_sh h hA hr h1).1 (TYA_sh h hA hr h1).2 (hA.2.2 _)
theorem TYA_239 [Inhabited fz_] (hA : TYA N) (hk : 0 ≤ k ∧ k < 12) (i v : Int) (hi : (2 ≤ i ∧ i < 6) ∨ (22 ≤ i ∧ i < 25)) (h0 : k < N 239 0) (hv : R32 v) : TYA (up_ N 239 (sB k + i) v) := by
  have ht : TYT N (up_ N 239 (sB k + i) v) := ⟨fun r hr => up_ne (fun e => by rw [e] at hr; revert hr; decide), by rw [up_ne (by decide)], by rw [up_ne (by decide)]⟩
  refine TYA_k hA ht hk (fun j hj => upo (by omega)) (TIN_q (hA.1 k hk.1 hk.2 h0) ht (upo (by omega)) (fun i i0 i1 => upo (by omega)) (fun q q0 q1 q2 => ?_)) (fun j _ _ => by rw [ua_, if_pos rfl]; split; exact hv; exact hA.2.2 j)
  have q2 : q < up_ N 239 (sB k + i) v 239 (sB k + 25) := q2
  rw [upo (by (clear hA hk h0 hv ht q0 q1 q2; omega))] at q2
  rw [upo (by omega)]
  exact SGV_c ((hA.1 k hk.1 hk.2 h0).2 q q0 q1 q2) ht (fun v v0 v1 => upo (by omega))
theorem TYA_g0 [Inhabited fz_] (hA : TYA N) : TYA (g0Q N) := TYA_c hA ⟨fun r hr => by unfold g0Q; rw [up_ne (fun e => by rw [e] at hr; revert hr; decide), up_ne (fun e => by rw [e] at hr; revert hr; decide), up_ne (fun e => by rw [e] at hr; revert hr; decide)], by unfold g0Q; rw [up_ne (by decide), up_ne (by decide), up_ne (by decide)]; exact ⟨rfl, rfl⟩⟩ (by unfold g0Q; rw [up_ne (by decide), up_ne (by decide), up_ne (by decide)])
theorem TYA_rg [Inhabited fz_] (h : RU z M N) (hA : TYA N) (hk : 0 ≤ k ∧ k < M 0 7) (ht : 0 ≤ t ∧ t < 3) : TYA (rgQ N k t) := by
  have n12 := h.1.1
  have j := (h.1.2.2.1 k hk.1 hk.2).2.2.2.2.1
  have s : SGV (g0Q (evQ (up_ N 239 (sB k + 22 + t) (-1)) 8 (N 239 (sB k)) (100 + t) (N 239 (sB k)))) (100 + t) (g0Q (evQ (up_ N 239 (sB k + 22 + t) (-1)) 8 (N 239 (sB k)) (100 + t) (N 239 (sB k))) 242) := ⟨by omega, fun e => by (clear h hA hk n12 j; omega), fun v v0 v1 => by
    have three : v = 0 ∨ v = 1 ∨ v = 2 := by (clear h hA hk ht n12 j; lia)
    unfold g0Q
    rcases three with e | e | e <;> rw [e] <;> first | rw [up_at] | rw [upo (by decide), up_at] | rw [upo (by decide), upo (by decide), up_at]
    all_goals exact ⟨by decide, by decide⟩⟩
  have a : TYA (g0Q (evQ (up_ N 239 (sB k + 22 + t) (-1)) 8 (N 239 (sB k)) (100 + t) (N 239 (sB k)))) := TYA_g0 (TYA_ev (by rw [Int.add_assoc]; exact TYA_239 hA (by (clear h hA ht j s; omega)) (22 + t) (-1) (by (clear h hA hk n12 j s; omega)) (by (clear h hA ht j s; omega)) ⟨by decide, by decide⟩))
  have e : ∀ i, i ≠ sB k + 22 + t → g0Q (evQ (up_ N 239 (sB k + 22 + t) (-1)) 8 (N 239 (sB k)) (100 + t) (N 239 (sB k))) 239 i = N 239 i := fun i hi => by
    unfold g0Q; rw [up_ne (by decide), up_ne (by decide), up_ne (by decide), EvQ_ev.1 239 (by decide) (by decide), upo hi]
  have hB : sB k = 2 + 56 * k := rfl
  unfold rgQ cmQ_
  split
  · exact TYA_lo a
  · rename_i c
    rw [e _ (by (clear h hA hk n12 j s a e hB c; omega))] at c
    exact TYA_q a (by omega) (by rw [e _ (by omega)]; (clear h hA hk ht n12 s a e hB; omega)) (by rw [e _ (by (clear h hA hk n12 j s a e c; omega))]; omega) s (hA.2.2 _)
theorem TYA_stp [Inhabited fz_] (h : RU z M N) (hA : TYA N) (hk : 0 ≤ k ∧ k < M 0 7) : TYA (stopQ N k) := by
  have n12 := h.1.1
  have hB : ∀ k, sB k = 2 + 56 * k := fun _ => rfl
  have hR : ∀ k, sR k = 674 + 43 * k := fun _ => rfl
  have hBk := hB k
  have ht := TYT_Q (QRF_stp (N := N) (k := k))
  have l := (ls_f (k := k) (p := N 239 (sB k)) (N 239 (sB k + 25)).toNat 0 N (evQ N 6 (N 239 (sB k)) (-1) 0)).2
  have l239 : lsQ k (N 239 (sB k)) (N 239 (sB k + 25)).toNat 0 (evQ N 6 (N 239 (sB k)) (-1) 0) 239 = N 239 := (l.1 239 (by decide) (by decide)).trans (EvQ_ev.1 239 (by decide) (by decide))
  have f : stopQ N k 239 = su_ (flf (cpf (N 239) (sB k) (sB (N 239 0 - 1)) 56) (sB (N 239 0 - 1)) (sB (N 239 0)) 0) 0 (N 239 0 - 1) := by
    unfold stopQ stpQ; rw [wr_same, l239]
  have hL := hB (N 239 0)
  have hL1 := hB (N 239 0 - 1)
  have f0 : stopQ N k 239 0 = N 239 0 - 1 := by rw [f]; unfold su_; rw [if_pos rfl]
  refine ⟨fun i i0 i1 i2 => ?_, fun r r0 r1 r2 => ?_, fun j => ?_⟩
  case refine_3 =>
    rw [f]; unfold su_ flf cpf
    have z0 : R32 0 := by unfold R32; (clear h hA hk n12 hB hR hBk ht l l239 f hL hL1 f0; lia)
    have z1 : R32 (N 239 0 - 1) := by unfold R32; omega
    repeat' split
    all_goals first | assumption | exact hA.2.2 _
  · rw [f0] at i2
    have := hB i
    have h1 := hB (i + 1)
    by_cases c : i < k
    · refine TIN_c (hA.1 i i0 i1 (by (clear h hA hk n12 hB hR hBk ht l l239 f hL hL1 i0 i1 this h1 c; omega))) ht (fun j j0 j1 => ?_)
      show stopQ N k 239 (sB i + j) = N 239 (sB i + j)
      rw [f]; unfold su_ flf cpf; rw [if_neg (by (clear h hA hk n12 hB hR hBk ht l l239 f hL hL1 f0 i2 h1 c; omega)), if_neg (by (clear h hA hk n12 hB hR hBk ht l l239 f i0 i1 h1 c; lia)), if_neg (by omega)]
    · refine TIN_c (hA.1 (i + 1) (by (clear h hA hk n12 hB hR hBk ht l l239 f hL hL1 f0 i2 this h1 c; lia)) (by omega) (by (clear h hA hk n12 hB hR hBk ht l l239 f hL hL1 i0 i1 this h1 c; omega))) ht (fun j j0 j1 => ?_)
      show stopQ N k 239 (sB i + j) = N 239 (sB (i + 1) + j)
      rw [f]; unfold su_ flf cpf; rw [if_neg (by omega), if_neg (by omega), if_pos (by (clear h hA hk n12 hB hR ht l l239 f hL i0 i1 h1; omega)), show sB i + j + 56 = sB (i + 1) + j by (clear h hA hk n12 hB hR hBk ht l l239 f hL hL1 f0 i0 i1 i2 c j0 j1; lia)]
  · have := hR r
    rw [ht.2.1] at r2
    refine TRO_c (hA.2.1 r r0 r1 r2) ht (fun j j0 j1 => ?_)
    show stopQ N k 239 (sR r + j) = N 239 (sR r + j)
    rw [f]; unfold su_ flf cpf; rw [if_neg (by (clear h hA hk n12 hB hR hBk ht l l239 f hL hL1 f0 r2; lia)), if_neg (by (clear h hA hB hR hBk ht l l239 f r2; lia)), if_neg (by (clear h hA hB hR ht l l239 f hL r2; lia))]
theorem TYA_mk [Inhabited fz_] (h : RU z M N) (hA : TYA N) (hn : M 0 7 < 12) (hT : 0 ≤ T ∧ T < 100) (h8 : M 0 8 < 2000000000) (hp : R32 p) : TYA (mkQ N T p) := by
  have n12 := h.1.1
  have hB : ∀ k, sB k = 2 + 56 * k := fun _ => rfl
  have hR : ∀ k, sR k = 674 + 43 * k := fun _ => rfl
  have hL := hB (N 239 0)
  have q0 : QRF N (mkQ0 N T p) := by
    have b : QRF N (mkB N T p) := by unfold mkB; exact QRF_tr (QRF_tr (QRF_wr (by decide) (by decide)) (QRF_up (by decide) (fun e => absurd e (by decide)))) (QRF_up (by decide) (fun e => absurd e (by decide)))
    unfold mkQ0; split
    · exact QRF_tr b (QRF_up (by decide) (fun _ => by decide))
    · exact b
  have ht := TYT_Q q0
  have f : mkQ0 N T p 239 = su_ (su_ (mkF (N 239) (sB (N 239 0)) T p) 0 (N 239 0 + 1)) 1 (N 239 1 + 1) := by
    have b : mkB N T p 239 = su_ (su_ (mkF (N 239) (sB (N 239 0)) T p) 0 (N 239 0 + 1)) 1 (N 239 1 + 1) := by
      unfold mkB
      funext i
      rw [ua_, if_pos rfl]
      unfold su_
      split
      · rfl
      · rw [ua_, if_pos rfl]; split
        · rfl
        · rw [wr_same]
    unfold mkQ0; split
    · rw [up_ne (by decide)]; exact b
    · exact b
  have fo : ∀ j, 2 ≤ j → j < sB (N 239 0) ∨ sB (N 239 0) + 56 ≤ j → mkQ0 N T p 239 j = N 239 j := fun j j2 hj => by
    rw [f]; unfold mkF su_ flf; rw [if_neg (by (clear h hA hn hT h8 hp n12 hB hR hL q0 ht f hj; omega)), if_neg (by omega), if_neg (by omega)]; dsimp only; rw [if_neg (by omega), if_neg (by (clear h hA hn hT h8 hp n12 hB hR q0 ht f j2; omega)), if_neg (by (clear h hA hn hT h8 hp n12 hB hR q0 ht f j2; omega)), if_neg (by omega), if_neg (by (clear h hA hn hT h8 hp n12 hB hR q0 ht f j2; omega))]
  have fz : ∀ j, 6 ≤ j → j < 56 → ¬ (22 ≤ j ∧ j < 25) → mkQ0 N T p 239 (sB (N 239 0) + j) = 0 := fun j j0 j1 j2 => by
    rw [f]; unfold mkF su_ flf; rw [if_neg (by omega), if_neg (by (clear h hA hT h8 hp hB hR q0 ht f fo j2; omega)), if_neg (by omega)]; dsimp only; rw [if_neg (by (clear h hA hn hT h8 hp n12 hB hR hL q0 ht f fo j2; lia)), if_neg (by omega), if_neg (by (clear h hA hn hT h8 hp n12 hB hR hL q0 ht f fo j2; lia)), if_neg (by (clear h hA hn hT h8 hp n12 hB hR hL q0 ht f fo j2; lia)), if_pos (by (clear h hA hn hT h8 hp n12 hB hR hL q0 ht f fo j2; lia))]
  have f0 : mkQ0 N T p 239 0 = N 239 0 + 1 := by rw [f]; unfold su_; rw [if_neg (by decide), if_pos rfl]
  unfold mkQ
  have n8 := h.1.2.1
  refine TYA_ev ⟨fun i i0 i1 i2 => ?_, fun r r0 r1 r2 => ?_, fun j => ?_⟩
  case refine_3 =>
    have z0 : R32 0 := by unfold R32; omega
    have z1 : R32 (-1) := by unfold R32; (clear h hA hn hT h8 hp n12 hB hR hL q0 ht f fo fz f0 n8 z0; lia)
    have z2 : R32 (N 239 0 + 1) := by unfold R32; (clear h hA hT h8 hp hB hR hL q0 ht f fo fz n8 z0 z1; lia)
    have z3 : R32 (N 239 1 + 1) := by unfold R32; (clear h hA hn hT hp n12 hB hR hL q0 ht f fo fz f0 z0 z1 z2; omega)
    have z4 : R32 (N 239 1) := hA.2.2 1
    have z5 : R32 T := by unfold R32; omega
    rw [f]; unfold mkF su_ flf
    split
    · exact z3
    · split
      · exact z2
      · split
        · exact z1
        · dsimp only
          repeat' split
          all_goals first | assumption | exact hA.2.2 _
  · have := hB i
    rw [f0] at i2
    by_cases c : i < N 239 0
    · exact TIN_c (hA.1 i i0 i1 c) ht (fun j j0 j1 => fo _ (by (clear h hA hT h8 hp hB hR hL q0 ht f fo fz n8 i2; lia)) (by (clear h hA hn hT h8 hp n12 hB hR q0 ht f fo fz n8 i0 i1 i2; lia)))
    · rw [show i = N 239 0 by omega]
      refine ⟨fun u u0 u1 u2 i i0 i1 i2 i3 => .inl (fz _ (by omega) (by (clear h hA hn hT h8 hp n12 hB hR hL q0 ht f fo fz f0 n8 this c u0 u1 u2 i0 i1; omega)) (by omega)), fun q q0 q1 q2 => ?_⟩
      have q2 : q < mkQ0 N T p 239 (sB (N 239 0) + 25) := q2
      rw [fz 25 (by decide) (by decide) (by decide)] at q2
      omega
  · have := hR r
    rw [ht.2.1] at r2
    exact TRO_c (hA.2.1 r r0 r1 r2) ht (fun j j0 j1 => fo _ (by (clear h hA hn hT h8 hp n12 hB hR hL q0 ht f fo fz f0 n8 r2; lia)) (by (clear h hA hT h8 hp hB hR q0 ht f fo fz n8 r2; lia)))
end TYa
end T348_ty
section T349_du
/-! the run: what is due comes (X 1 | Q 326) -/
/-- who lives stays -/
def KPX (M M' : mm_) : Prop := M' 0 7 = M 0 7 ∧ M' 0 8 = M 0 8 ∧ M' 11 = M 11 ∧ M' 0 9 = M 0 9
/-- what is known not to be due: routes a, timers b -/
def DN (M : mm_) (a b : Int → Prop) : Prop := (∀ r, a r → M 21 r ≤ 0 ∨ M 0 9 < M 22 (42 * r + 3)) ∧ ∀ i, b i → M 16 i = 0 ∨ M 0 9 < M 17 i
section DUb
variable {M N M' N' M1 N1 : mm_} {r k t : Int}
theorem KPX_tr [Inhabited fz_] (h : KPX M M1) (g : KPX M1 M') : KPX M M' := ⟨g.1.trans h.1, g.2.1.trans h.2.1, g.2.2.1.trans h.2.2.1, g.2.2.2.trans h.2.2.2⟩
theorem KPX_l [Inhabited fz_] : KPX M (lX M r) := by
  unfold lX KPX
  rw [aX_0 (by decide), aX_0 (by decide), aX_s (by decide), aX_0 (by decide)]
  unfold shX
  rw [wr_ne (by decide), wr_ne (by decide), up_ne (by decide), up_ne (by decide)]
  exact ⟨rfl, rfl, rfl, rfl⟩
theorem DN_l [Inhabited fz_] {a b : Int → Prop} (h : DN M a b) (h0 : 0 < M 21 r) (h1 : M 22 (42 * r + 3) ≤ M 0 9) (h6 : M 21 r ≤ 6) : DN (lX M r) a b := by
  have e9 : lX M r 0 9 = M 0 9 := (KPX_l (M := M) (r := r)).2.2.2
  refine ⟨fun q hq => ?_, fun i hi => ?_⟩
  · have ne : q ≠ r := fun e => by subst e; have := h.1 q hq; (clear h hq; omega)
    have := h.1 q hq
    have e21 : lX M r 21 q = M 21 q := by unfold lX; rw [aX_s (by decide)]; unfold shX; rw [wr_ne (by decide), upo ne]
    have e22 : lX M r 22 (42 * q + 3) = M 22 (42 * q + 3) := by
      unfold lX; rw [aX_s (by decide)]; unfold shX; rw [wr_same]; unfold cpf; rw [if_neg (by lia)]
    rw [e21, e22, e9]; exact this
  · have := h.2 i hi
    have e : ∀ q : Nat, q ∈ [16, 17] → lX M r q = M q := fun q hq => by
      simp only [List.mem_cons, List.not_mem_nil, or_false] at hq
      unfold lX
      rw [aX_s (fun e => by simp only [List.mem_cons, List.not_mem_nil, or_false] at e; (clear h h0 h1 h6 e9 hi this; lia))]; unfold shX; rw [wr_ne (by omega), up_ne (by omega)]
    rw [e 16 (by decide), e 17 (by decide), e9]; exact this
theorem rgX_t [Inhabited fz_] : (∀ q : Nat, q ∈ [17, 21, 22] → rgX M k t q = M q) ∧ rgX M k t 0 9 = M 0 9 ∧ rgX M k t 16 = up_ M 16 (3 * k + t) 0 16 := by
  unfold rgX cmX_
  have e : ∀ q : Nat, q ≠ 0 → q ≠ 23 → evX (up_ M 16 (3 * k + t) 0) 8 (M 10 k) (100 + t) (M 10 k) q = up_ M 16 (3 * k + t) 0 q := fun q h1 h2 => by rw [EvX_ev.1 q h1 h2]
  have e0 : ∀ i : Int, i ≠ 35 → i ≠ 36 → evX (up_ M 16 (3 * k + t) 0) 8 (M 10 k) (100 + t) (M 10 k) 0 i = M 0 i := fun i h1 h2 => by rw [EvX_ev.2 i h1 h2, up_ne (by decide)]
  split
  · refine ⟨fun q hq => ?_, ?_, ?_⟩
    · simp only [List.mem_cons, List.not_mem_nil, or_false] at hq
      rw [LoX_lo.1 q (by (clear e e0; omega)) (by omega), e q (by omega) (by omega), up_ne (by omega)]
    · rw [LoX_lo.2 9 (by decide), e0 9 (by decide) (by decide)]
    · rw [LoX_lo.1 16 (by decide) (by decide), e 16 (by decide) (by decide)]
  · refine ⟨fun q hq => ?_, ?_, ?_⟩
    · simp only [List.mem_cons, List.not_mem_nil, or_false] at hq
      rw [qX_r (by omega) (by omega), e q (by (clear e e0; omega)) (by omega), up_ne (by omega)]
    · rw [qX_r (by decide) (by decide), e0 9 (by decide) (by decide)]
    · rw [qX_r (by decide) (by decide), e 16 (by decide) (by decide)]
theorem DN_rg [Inhabited fz_] {a b : Int → Prop} (h : DN M a b) : DN (rgX M k t) a (fun i => b i ∨ i = 3 * k + t) := by
  obtain ⟨e1, e2, e3⟩ := rgX_t (M := M) (k := k) (t := t)
  refine ⟨fun r hr => by rw [e1 21 (by decide), e1 22 (by decide), e2]; exact h.1 r hr, fun i hi => ?_⟩
  rw [e1 17 (by decide), e2, e3]
  by_cases c : i = 3 * k + t
  · left; rw [c, up_at]
  · rw [upo c]; exact h.2 i (hi.resolve_right c)
theorem KPX_rg [Inhabited fz_] : KPX M (rgX M k t) := by
  have := rgX_s (M := M) (k := k) (t := t)
  exact ⟨this.2.1, this.2.2, this.1, (rgX_t (M := M) (k := k) (t := t)).2.1⟩
def KPT (M N M' N' : mm_) : Prop := KPX M M' ∧ (TYA N → TYA N')
theorem KPT_rf [Inhabited fz_] : KPT M N M N := ⟨⟨rfl, rfl, rfl, rfl⟩, id⟩
theorem KPT_tr [Inhabited fz_] (h : KPT M N M1 N1) (g : KPT M1 N1 M' N') : KPT M N M' N' := ⟨KPX_tr h.1 g.1, fun a => g.2 (h.2 a)⟩
/-- the rows of a route -/
theorem l_13 [Inhabited fz_] : ∀ (j : Nat) (M N : mm_), RU 0 M N → 0 ≤ r → r < N 6 18 → M 21 r ≤ (j : Int) → ∃ M' N', RC 5 m_1 13 [rr 0, ii r, none] M 2 [rr 0, ii (r + 1), none] M' ∧ RC 4 m_326 10 [rr 6, ii r, none, none] N 2 [rr 6, ii (r + 1), none, none] N' ∧ RU 0 M' N' ∧ (XRF M M' ∧ QRF N N') ∧ KPT M N M' N' ∧ ∀ a b : Int → Prop, DN M a b → DN M' (fun x => a x ∨ x = r) b := fun j => by
  induction j with
  | zero =>
    intro M N h r0 r1 hj
    have hb := (h.2.1.2.1 r r0 r1).1
    have h10 := h.2.1.1
    have hR : sR r = 674 + 43 * r := rfl
    refine ⟨M, N, fun V Qr Qt hV hW g => b_1_13 (Tr_mono _) hV hW _ _ ⟨by omega, ?_⟩, fun V Qr Qt hV hW g => b_326_10 (Tr_mono _) hV hW _ _ ?_, h, ⟨XRF_rf, QRF_rf⟩, KPT_rf, fun a b h => ⟨fun x hx => hx.elim (h.1 x) (fun e => by rw [e]; exact .inl (by omega)), h.2⟩⟩
    · rw [if_pos (by omega), w32_id (x := r + 1) (by (clear h r1 hj hb h10 hR hV hW g; lia)) (by omega)]; exact g
    · refine Ex_le (d := 1) (by decide) (q_327 (by omega)) _ _ (ri_i ⟨by omega, ?_⟩)
      rw [if_pos (by (clear h r0 r1 h10 hR hV hW g; omega)), w32_id (x := r + 1) (by omega) (by omega)]; exact g
  | succ j ih =>
    intro M N h r0 r1 hj
    have hb := (h.2.1.2.1 r r0 r1).1
    have h10 := h.2.1.1
    have hR : sR r = 674 + 43 * r := rfl
    by_cases c : M 21 r ≤ 0
    · refine ⟨M, N, fun V Qr Qt hV hW g => b_1_13 (Tr_mono _) hV hW _ _ ⟨by (clear ih h hj hb hR c hV hW g; omega), ?_⟩, fun V Qr Qt hV hW g => b_326_10 (Tr_mono _) hV hW _ _ ?_, h, ⟨XRF_rf, QRF_rf⟩, KPT_rf, fun a b h => ⟨fun x hx => hx.elim (h.1 x) (fun e => by rw [e]; exact .inl c), h.2⟩⟩
      · rw [if_pos c, w32_id (x := r + 1) (by omega) (by omega)]; exact g
      · refine Ex_le (d := 1) (by decide) (q_327 (by omega)) _ _ (ri_i ⟨by (clear ih h hj hb c hV hW g; lia), ?_⟩)
        rw [if_pos (by (clear ih h r0 r1 hj h10 hR hV hW g; lia)), w32_id (x := r + 1) (by omega) (by omega)]; exact g
    · obtain ⟨e1, e2, e3, e4⟩ := (h.2.1.2.1 r r0 r1).2.1 0 (by decide) (by omega)
      have t := e3 rfl
      rw [show 42 * r + 7 * 0 + 3 = 42 * r + 3 by (clear ih h r0 r1 hj hb h10 hR c e1 e2 e3 e4 t; lia), show sR r + 1 + 7 * 0 + 3 = sR r + 4 by omega] at t
      have nw := h.2.2.1.2.1.1
      by_cases c2 : M 22 (42 * r + 3) ≤ M 0 9
      · have hl := RU_l h ⟨r0, r1⟩ (by omega)
        obtain ⟨M', N', x, q, ru, fr, kp, dn⟩ := ih (lX M r) (lQ N r) hl r0 (by rw [QRF_l.2 18 (by decide)]; exact r1) (by rw [lX_21]; omega)
        refine ⟨M', N', RC_tr (fun V Qr Qt hV hW g => b_1_13 (Tr_mono _) hV hW _ _ ⟨by omega, ?_⟩) x, RC_tr (fun V Qr Qt hV hW g => b_326_10 (Tr_mono _) hV hW _ _ ?_) q, ru, ⟨XRF_tr XRF_l fr.1, QRF_tr QRF_l fr.2⟩, KPT_tr ⟨KPX_l, fun a => TYA_l h a ⟨r0, r1⟩ (by omega)⟩ kp, fun a b h => dn a b (DN_l h (by omega) c2 (by omega))⟩
        · rw [if_neg c]
          refine Ex_le (d := 1) (by decide) (x_2 (a := 0) (by omega) (by decide)) _ _ (ri_i ?_)
          rw [show 42 * r + 7 * 0 = 42 * r by omega, w32_id (x := 42 * r + 3) (by (clear ih h r1 hj hb h10 hR c e1 e2 e3 e4 t nw c2 hl x q ru fr kp dn hV hW g; lia)) (by (clear ih h r0 hj hb hR c e1 e2 e3 e4 t nw c2 hl x q ru fr kp dn hV hW g; lia)), if_pos c2]
          exact ⟨by omega, x_3 h ⟨r0, r1⟩ (by (clear ih h r0 r1 hj h10 hR e1 e2 e3 e4 t nw c2 hl x q ru fr kp dn hV hW g; omega)) _ _ (rv_i g)⟩
        · refine Ex_le (d := 1) (by decide) (q_327 (by omega)) _ _ (ri_i ⟨by omega, ?_⟩)
          rw [if_neg (by omega)]
          refine Ex_le (d := 1) (by decide) (q_327 (by omega)) _ _ (ri_i ?_)
          rw [w32_id (x := sR r + 4) (by omega) (by omega), if_pos (by (clear ih h r0 r1 hj hb h10 hR c e1 e2 e3 e4 hl x q ru fr kp dn hV hW g; omega))]
          exact ⟨by (clear ih h hj hb c e1 e2 e3 e4 t nw c2 hl x q ru fr kp dn hV hW g; lia), q_328 h ⟨r0, r1⟩ (by omega) _ _ (rv_i g)⟩
      · refine ⟨M, N, fun V Qr Qt hV hW g => b_1_13 (Tr_mono _) hV hW _ _ ⟨by omega, ?_⟩, fun V Qr Qt hV hW g => b_326_10 (Tr_mono _) hV hW _ _ ?_, h, ⟨XRF_rf, QRF_rf⟩, KPT_rf, fun a b h => ⟨fun x hx => hx.elim (h.1 x) (fun e => by rw [e]; exact .inr (by omega)), h.2⟩⟩
        · rw [if_neg c]
          refine Ex_le (d := 1) (by decide) (x_2 (a := 0) (by omega) (by decide)) _ _ (ri_i ?_)
          rw [show 42 * r + 7 * 0 = 42 * r by (clear ih h r0 r1 hj hb h10 hR c e1 e2 e3 e4 t nw c2 hV hW g; lia), w32_id (x := 42 * r + 3) (by omega) (by omega), if_neg c2, w32_id (x := r + 1) (by omega) (by omega)]
          exact ⟨by omega, g⟩
        · refine Ex_le (d := 1) (by decide) (q_327 (by omega)) _ _ (ri_i ⟨by omega, ?_⟩)
          rw [if_neg (by omega)]
          refine Ex_le (d := 1) (by decide) (q_327 (by omega)) _ _ (ri_i ?_)
          rw [w32_id (x := sR r + 4) (by omega) (by omega), if_neg (by (clear ih h r0 r1 hj hb h10 hR c e1 e2 e3 e4 hV hW g; omega)), w32_id (x := r + 1) (by omega) (by omega)]
          exact ⟨by omega, g⟩
/-- all routes -/
theorem l_2 [Inhabited fz_] : ∀ (j : Nat) (r : Int) (M N : mm_), RU 0 M N → M 4 1 = N 6 18 → 0 ≤ r → r + j = N 6 18 → ∃ M' N', RC 5 m_1 2 [rr 0, ii r, none] M 57 [rr 0, ii 0, none] M' ∧ RC 4 m_326 2 [rr 6, ii r, none, none] N 56 [rr 6, ii 0, none, none] N' ∧ RU 0 M' N' ∧ (XRF M M' ∧ QRF N N') ∧ KPT M N M' N' ∧ ∀ a b : Int → Prop, DN M a b → DN M' (fun x => a x ∨ (r ≤ x ∧ x < N 6 18)) b := fun j => by
  induction j with
  | zero =>
    intro r M N h h4 r0 hj
    refine ⟨M, N, fun V Qr Qt hV hW g => b_1_2 (Tr_mono _) hV hW _ _ ?_, fun V Qr Qt hV hW g => b_326_2 (Tr_mono _) hV hW _ _ ?_, h, ⟨XRF_rf, QRF_rf⟩, KPT_rf, fun a b h => ⟨fun x hx => hx.elim (h.1 x) (fun e => by omega), h.2⟩⟩
    · rw [if_neg (by omega)]; exact g
    · rw [if_neg (by omega)]; exact g
  | succ j ih =>
    intro r M N h h4 r0 hj
    have hb := (h.2.1.2.1 r r0 (by omega)).1
    obtain ⟨M1, N1, x1, q1, ru1, fr1, kp1, dn1⟩ := l_13 (r := r) 6 M N h r0 (by omega) (by omega)
    have e18 : N1 6 18 = N 6 18 := fr1.2.2 18 (by decide)
    obtain ⟨M', N', x, q, ru, fr, kp, dn⟩ := ih (r + 1) M1 N1 ru1 (by rw [fr1.1.1 4 (by decide), e18]; exact h4) (by (clear ih h h4 hb x1 q1 ru1 fr1 kp1 dn1; lia)) (by omega)
    refine ⟨M', N', RC_tr (RC_tr (fun V Qr Qt hV hW g => b_1_2 (Tr_mono _) hV hW _ _ ?_) x1) x, RC_tr (RC_tr (fun V Qr Qt hV hW g => b_326_2 (Tr_mono _) hV hW _ _ ?_) q1) q, ru, ⟨XRF_tr fr1.1 fr.1, QRF_tr fr1.2 fr.2⟩, KPT_tr kp1 kp, fun a b h => (dn _ _ (dn1 a b h)).imp (fun g x hx => g x (by rw [e18]; rcases hx with c | c; exact .inl (.inl c); by_cases e : x = r; exact .inl (.inr e); exact .inr (by (clear ih h4 r0 hb x1 q1 ru1 fr1 kp1 dn1 q ru fr kp dn h g; omega)))) id⟩
    · rw [if_pos (by (clear ih h r0 hb x1 q1 ru1 fr1 kp1 dn1 e18 x q ru fr kp dn hV hW g; omega))]; exact g
    · rw [if_pos (by omega)]; exact g
/-- Q alone: timers that are off -/
theorem l_68o [Inhabited fz_] (h : RU 0 M N) (hk : 0 ≤ k ∧ k < M 0 7) : ∀ (j : Nat) (t : Int), t + j = 3 → 0 ≤ t → N 173 (M 11 k) ≤ t → RC 4 m_326 68 [rr 6, ii k, ii t, none] N 56 [rr 6, ii (k + 1), none, none] N := fun j => by
  have n12 := h.1.1
  have hB : sB k = 2 + 56 * k := rfl
  induction j with
  | zero =>
    intro t hj t0 ht V Qr Qt hV hW g
    refine b_326_68 (Tr_mono _) hV hW _ _ _ ?_
    rw [if_neg (by omega), w32_id (x := k + 1) (by omega) (by omega)]; exact g
  | succ j ih =>
    intro t hj t0 ht V Qr Qt hV hW g
    have tm := (h.1.2.2.1 k hk.1 hk.2).2.2.2.1 t t0 (by omega)
    have off : N 239 (sB k + 22 + t) = -1 := by
      rcases tm.1 with c | c
      · have := tm.2 ht; omega
      · exact c.2
    refine b_326_68 (Tr_mono _) hV hW _ _ _ ?_
    rw [if_pos (by omega)]
    refine Ex_le (d := 1) (by decide) (q_323 (by (clear h hB ih hj t0 ht hV hW g tm off; lia))) _ _ (ri_i ?_)
    rw [w32_id (x := sB k + 22) (by omega) (by (clear h ih hj t0 ht hV hW g tm off; omega)), w32_id (x := sB k + 22 + t) (by omega) (by (clear h ih ht hV hW g tm off; lia)), if_pos (by omega), w32_id (x := t + 1) (by omega) (by (clear h hk n12 hB ih ht hV hW g tm off; omega))]
    exact ⟨by omega, ih (t + 1) (by omega) (by omega) (by (clear h hk n12 hB ih t0 hV hW g tm off; omega)) V Qr Qt hV hW g⟩
/-- the timers of an instance -/
theorem l_67 [Inhabited fz_] : ∀ (j : Nat) (t : Int) (M N : mm_), RU 0 M N → (∀ T, 0 ≤ T → T < N 6 19 → M 93 T = N 173 T ∧ N 173 T ≤ 3) → (N 6 19 ≤ 6) → (0 ≤ k ∧ k < M 0 7) → 0 ≤ t → t + j = 3 → ∃ M' N', RC 5 m_1 67 [rr 0, ii k, ii t] M 57 [rr 0, ii (k + 1), none] M' ∧ RC 4 m_326 68 [rr 6, ii k, ii t, none] N 56 [rr 6, ii (k + 1), none, none] N' ∧ RU 0 M' N' ∧ (XRF M M' ∧ QRF N N') ∧ KPT M N M' N' ∧ ∀ a b : Int → Prop, DN M a b → DN M' a (fun i => b i ∨ (3 * k + t ≤ i ∧ i < 3 * k + 3)) := fun j => by
  induction j with
  | zero =>
    intro t M N h hp h6 hk t0 hj
    have n12 := h.1.1
    have i2 := (h.1.2.2.1 k hk.1 hk.2).2.1.2.1
    have p := hp (M 11 k) i2.1 i2.2
    refine ⟨M, N, fun V Qr Qt hV hW g => b_1_67 (Tr_mono _) hV hW _ _ _ ⟨by (clear h hp h6 t0 hj i2 p hV hW g; omega), by (clear h hp hk t0 hj n12 p hV hW g; omega), ?_⟩, fun V Qr Qt hV hW g => b_326_68 (Tr_mono _) hV hW _ _ _ ?_, h, ⟨XRF_rf, QRF_rf⟩, KPT_rf, fun a b h => ⟨h.1, fun i hx => hx.elim (h.2 i) (fun e => by omega)⟩⟩
    · rw [if_neg (by omega), w32_id (x := k + 1) (by (clear h hp h6 t0 hj n12 i2 p hV hW g; omega)) (by (clear h hp h6 t0 hj i2 p hV hW g; omega))]; exact g
    · rw [if_neg (by omega), w32_id (x := k + 1) (by omega) (by omega)]; exact g
  | succ j ih =>
    intro t M N h hp h6 hk t0 hj
    have n12 := h.1.1
    have hB : sB k = 2 + 56 * k := rfl
    have hi := h.1.2.2.1 k hk.1 hk.2
    have i2 := hi.2.1.2.1
    have p := hp (M 11 k) i2.1 i2.2
    have nw := h.2.2.1.2.1.1
    by_cases c : t < N 173 (M 11 k)
    · have tm := (hi.2.2.2.1 t t0 (by omega)).1
      have w : w32 (w32 (3 * k) + t) = 3 * k + t := by rw [w32_id (x := 3 * k) (by (clear ih h hp h6 t0 hj n12 hB hi i2 p nw c tm; omega)) (by (clear ih h hp h6 t0 hj hB hi i2 p nw c tm; omega)), w32_id (by omega) (by (clear ih h hp h6 hB hi i2 p nw c tm; omega))]
      have wt : w32 (t + 1) = t + 1 := w32_id (by omega) (by (clear ih h hp h6 hk n12 hB hi i2 p nw c tm; omega))
      have wq : w32 (w32 (sB k + 22) + t) = sB k + 22 + t := by rw [w32_id (x := sB k + 22) (by (clear ih h hp h6 t0 hj n12 hi i2 p nw c tm w wt; lia)) (by omega), w32_id (by (clear ih h hp h6 n12 hi i2 p nw c tm; lia)) (by (clear ih h hp h6 hi i2 p nw c tm; lia))]
      -- without a ring
      have stay : (M 16 (3 * k + t) = 0 ∨ ¬ M 17 (3 * k + t) ≤ M 0 9) → ∃ M' N', RC 5 m_1 67 [rr 0, ii k, ii t] M 57 [rr 0, ii (k + 1), none] M' ∧ RC 4 m_326 68 [rr 6, ii k, ii t, none] N 56 [rr 6, ii (k + 1), none, none] N' ∧ RU 0 M' N' ∧ (XRF M M' ∧ QRF N N') ∧ KPT M N M' N' ∧ ∀ a b : Int → Prop, DN M a b → DN M' a (fun i => b i ∨ (3 * k + t ≤ i ∧ i < 3 * k + 3)) := fun hs => by
        obtain ⟨M', N', x, q, ru, fr, kp, dn⟩ := ih (t + 1) M N h hp h6 hk (by (clear ih h hp h6 hk n12 hi i2 p nw c tm hs; lia)) (by (clear ih h hp h6 hk t0 n12 hB hi i2 p nw c tm w wt wq hs; lia))
        refine ⟨M', N', RC_tr (fun V Qr Qt hV hW g => b_1_67 (Tr_mono _) hV hW _ _ _ ⟨by (clear ih h hp h6 t0 hj hB hi i2 p nw c tm w wt wq hs x q ru fr kp dn hV hW g; lia), by omega, ?_⟩) x, RC_tr (fun V Qr Qt hV hW g => b_326_68 (Tr_mono _) hV hW _ _ _ ?_) q, ru, fr, kp, fun a b h => (dn a (fun i => b i ∨ i = 3 * k + t) ⟨h.1, fun i hx => hx.elim (h.2 i) (fun e => by rw [e]; (clear ih hp h6 hk t0 hj n12 hB hi i2 p c tm w wt wq x q ru fr kp dn h hx e; lia))⟩).imp id (fun g i hx => g i (by rcases hx with c | c; exact .inl (.inl c); by_cases e : i = 3 * k + t; exact .inl (.inr e); exact .inr (by (clear ih hp h6 hk t0 n12 hi i2 p nw tm hs x q ru fr kp dn h g; lia))))⟩
        · rw [if_pos (by (clear ih h hp h6 hk t0 n12 hi i2 nw tm hs x q ru fr kp dn hV hW g; lia)), w, wt]
          refine ⟨by (clear ih h hp h6 hi i2 p nw c tm hs x q ru fr kp dn hV hW g; lia), fun _ => ?_⟩
          by_cases c0 : M 16 (3 * k + t) = 0
          · rw [if_pos c0]; exact g
          · rw [if_neg c0, if_neg (by (clear ih h hp h6 hk t0 hj n12 hB hi i2 p c tm w wt wq x q ru fr kp dn hV hW g; lia))]; exact ⟨by omega, g⟩
        · rw [if_pos (by omega)]
          refine Ex_le (d := 1) (by decide) (q_323 (by (clear ih h hp h6 t0 hj hB hi i2 p nw c tm w wt wq hs x q ru fr kp dn hV hW g; omega))) _ _ (ri_i ?_)
          rw [wq, wt]
          refine ⟨by (clear ih h hp h6 hi i2 p nw c tm hs x q ru fr kp dn hV hW g; lia), ?_⟩
          by_cases c1 : N 239 (sB k + 22 + t) < 0
          · rw [if_pos c1]; exact g
          · rw [if_neg c1, if_neg (by rcases tm with d | d <;> omega)]; exact g
      rcases tm with ⟨d1, d2, d3⟩ | d
      · by_cases c2 : M 17 (3 * k + t) ≤ M 0 9
        · have hr := RU_rg h hk ⟨t0, by omega⟩
          have kp1 : KPT M N (rgX M k t) (rgQ N k t) := ⟨KPX_rg (M := M) (k := k) (t := t), fun a => TYA_rg h a hk ⟨t0, by (clear ih h hp h6 hk n12 hi i2 p nw c stay d1 d2 d3 c2 hr a; lia)⟩⟩
          obtain ⟨M', N', x, q, ru, fr, kp, dn⟩ := ih (t + 1) (rgX M k t) (rgQ N k t) hr (by rw [QRF_rg.2 19 (by decide), QRF_rg.1 173 (by decide), XRF_rg.1 93 (by decide)]; exact hp) (by rw [QRF_rg.2 19 (by decide)]; exact h6) (by rw [kp1.1.1]; exact hk) (by (clear ih h hp h6 hk n12 hi i2 p nw c stay d1 d2 d3 c2 hr kp1; lia)) (by omega)
          refine ⟨M', N', RC_tr (fun V Qr Qt hV hW g => b_1_67 (Tr_mono _) hV hW _ _ _ ⟨by omega, by omega, ?_⟩) x, RC_tr (fun V Qr Qt hV hW g => b_326_68 (Tr_mono _) hV hW _ _ _ ?_) q, ru, ⟨XRF_tr XRF_rg fr.1, QRF_tr QRF_rg fr.2⟩, KPT_tr kp1 kp, fun a b h => (dn a _ (DN_rg h)).imp id (fun g i hx => g i (by rcases hx with c | c; exact .inl (.inl c); by_cases e : i = 3 * k + t; exact .inl (.inr e); exact .inr (by omega)))⟩
          · rw [if_pos (by omega), w, wt]
            refine ⟨by (clear ih h hp h6 hi i2 p nw c stay d1 d2 d3 c2 hr kp1 x q ru fr kp dn hV hW g; omega), fun _ => ?_⟩
            rw [if_neg (by (clear ih h hp h6 hk t0 hj n12 hB hi i2 p nw c w wt wq stay d2 d3 c2 hr kp1 x q ru fr kp dn hV hW g; lia)), if_pos c2]
            exact ⟨by (clear ih h hp h6 hi i2 p nw c stay d1 d2 d3 c2 hr kp1 x q ru fr kp dn hV hW g; omega), Ex_le (d := 4) (by decide) (x_10 h hk ⟨t0, by omega⟩) _ _ (rv_i g)⟩
          · rw [if_pos (by (clear ih h hp h6 hk n12 hi i2 p nw c stay d1 d2 d3 c2 hr kp1 x q ru fr kp dn hV hW g; lia))]
            refine Ex_le (d := 1) (by decide) (q_323 (by omega)) _ _ (ri_i ?_)
            rw [wq, wt, if_neg (by (clear ih h hp h6 hk t0 hj n12 hB hi i2 p nw c w wt wq stay d1 c2 hr kp1 x q ru fr kp dn hV hW g; omega)), if_pos (by (clear ih h hp h6 hk t0 hj n12 hB hi i2 p c w wt wq stay d1 d2 hr kp1 x q ru fr kp dn hV hW g; omega))]
            exact ⟨by (clear ih h hp h6 hi i2 p nw c stay d1 d2 d3 c2 hr kp1 x q ru fr kp dn hV hW g; omega), Ex_le (d := 3) (by decide) (q_334 h hk ⟨t0, by omega⟩) _ _ (rv_i g)⟩
        · exact stay (.inr c2)
      · exact stay (.inl d.1)
    · refine ⟨M, N, fun V Qr Qt hV hW g => b_1_67 (Tr_mono _) hV hW _ _ _ ⟨by omega, by omega, ?_⟩, l_68o h hk (j + 1) t (by omega) t0 (by omega), h, ⟨XRF_rf, QRF_rf⟩, KPT_rf, fun a b h => ⟨h.1, fun i hx => hx.elim (h.2 i) (fun e => .inl (by have := (hi.2.2.2.1 (i - 3 * k) (by (clear ih hp h6 hk n12 hB hi i2 p nw c h hx; lia)) (by omega)).2 (by (clear ih hp h6 hk t0 n12 hB hi i2 p nw h hx; omega)); rw [show 3 * k + (i - 3 * k) = i by (clear ih hp h6 hk t0 hj n12 hB hi i2 p nw c h hx e this; lia)] at this; exact this))⟩⟩
      rw [if_neg (by omega), w32_id (x := k + 1) (by omega) (by omega)]; exact g
/-- all instances -/
theorem l_57 [Inhabited fz_] : ∀ (j : Nat) (k : Int) (M N : mm_), RU 0 M N → (∀ T, 0 ≤ T → T < N 6 19 → M 93 T = N 173 T ∧ N 173 T ≤ 3) → (N 6 19 ≤ 6) → 0 ≤ k → k + j = M 0 7 → ∃ M' N', (∀ (V : vv_) (Qr : qr_) (Qt : qt_), Cl_ wd0 (Tr_ wd0 pg0 5) V Qr Qt m_1 → Wk_ V → Qr [] M' → V 57 [rr 0, ii k, none] [] M) ∧ (∀ (V : vv_) (Qr : qr_) (Qt : qt_), Cl_ wd0 (Tr_ wd0 pg0 4) V Qr Qt m_326 → Wk_ V → Qr [] N' → V 56 [rr 6, ii k, none, none] [] N) ∧ RU 0 M' N' ∧ (XRF M M' ∧ QRF N N') ∧ KPT M N M' N' ∧ ∀ a b : Int → Prop, DN M a b → DN M' a (fun i => b i ∨ (3 * k ≤ i ∧ i < 3 * M 0 7)) := fun j => by
  induction j with
  | zero =>
    intro k M N h hp h6 k0 hj
    have n12 := h.1.1
    refine ⟨M, N, fun V Qr Qt hV hW g => b_1_57 (Tr_mono _) hV hW _ _ ?_, fun V Qr Qt hV hW g => b_326_56 (Tr_mono _) hV hW _ _ ⟨by decide, ?_⟩, h, ⟨XRF_rf, QRF_rf⟩, KPT_rf, fun a b h => ⟨h.1, fun i hx => hx.elim (h.2 i) (fun e => by omega)⟩⟩
    · rw [if_neg (by omega)]; exact g
    · rw [if_neg (by omega)]; exact g
  | succ j ih =>
    intro k M N h hp h6 k0 hj
    have n12 := h.1.1
    obtain ⟨M1, N1, x1, q1, ru1, fr1, kp1, dn1⟩ := l_67 (k := k) 3 0 M N h hp h6 (by omega) (by decide) (by decide)
    obtain ⟨M', N', x, q, ru, fr, kp, dn⟩ := ih (k + 1) M1 N1 ru1 (by rw [fr1.2.2 19 (by decide), fr1.2.1 173 (by decide), fr1.1.1 93 (by decide)]; exact hp) (by rw [fr1.2.2 19 (by decide)]; exact h6) (by (clear ih h hp h6 x1 q1 ru1 fr1 kp1 dn1; lia)) (by rw [kp1.1.1]; omega)
    refine ⟨M', N', fun V Qr Qt hV hW g => b_1_57 (Tr_mono _) hV hW _ _ ?_, fun V Qr Qt hV hW g => b_326_56 (Tr_mono _) hV hW _ _ ⟨by decide, ?_⟩, ru, ⟨XRF_tr fr1.1 fr.1, QRF_tr fr1.2 fr.2⟩, KPT_tr kp1 kp, fun a b h => (dn _ _ (dn1 a b h)).imp id (fun g i hx => g i (by have e7 := kp1.1.1; rw [e7]; rcases hx with c | c; exact .inl (.inl c); by_cases e : i < 3 * k + 3; exact .inl (.inr (by (clear ih hp h6 k0 x1 q1 ru1 fr1 kp1 dn1 x q ru fr kp dn h g; lia))); exact .inr (by omega)))⟩
    · rw [if_pos (by omega)]; exact x1 V Qr Qt hV hW (x V Qr Qt hV hW g)
    · rw [if_pos (by (clear ih h hp h6 k0 x1 q1 ru1 fr1 kp1 dn1 x q ru fr kp dn hV hW g; omega))]; exact q1 V Qr Qt hV hW (q V Qr Qt hV hW g)
theorem PLr_93 [Inhabited fz_] (h : PLr M N) : (M 4 1 = N 6 18) ∧ (N 6 19 ≤ 6) ∧ ∀ T, 0 ≤ T → T < N 6 19 → M 93 T = N 173 T ∧ N 173 T ≤ 3 := by
  obtain ⟨⟨_, a2, a3⟩, b, _⟩ := h
  rw [tbN_6 (by decide), tbN_6 (by decide)] at *
  refine ⟨a2.1, a3.2.2, fun T T0 T1 => ?_⟩
  have := (b T T0 T1).2.2.1.2.2.2.1
  rw [tbN_r (by decide) (by decide)] at this
  exact ⟨this.1, this.2.2⟩
theorem j_due [Inhabited fz_] (h : RU 0 M N) (hp : PLr M N) : ∃ M' N', Ex_ 6 1 [.inr (.inr 0)] M [] M' ∧ Ex_ 5 326 [.inr (.inr 6)] N [] N' ∧ RU 0 M' N' ∧ (XRF M M' ∧ QRF N N') ∧ KPT M N M' N' ∧ DN M' (fun x => 0 ≤ x ∧ x < N 6 18) (fun i => 0 ≤ i ∧ i < 3 * M 0 7) := by
  obtain ⟨p1, p2, p3⟩ := PLr_93 hp
  have h18 := h.2.1.1
  obtain ⟨M1, N1, x1, q1, ru1, fr1, kp1, dn1⟩ := l_2 (N 6 18).toNat 0 M N h p1 (by decide) (by omega)
  have n12 := ru1.1.1
  obtain ⟨M', N', x, q, ru, fr, kp, dn⟩ := l_57 (M1 0 7).toNat 0 M1 N1 ru1 (by rw [fr1.2.2 19 (by decide), fr1.2.1 173 (by decide), fr1.1.1 93 (by decide)]; exact p3) (by rw [fr1.2.2 19 (by decide)]; exact p2) (by decide) (by omega)
  exact ⟨M', N', fun Qr Qt hq => t_1 fun V hV hW => b_1_0 (Tr_mono _) hV hW _ (x1 V Qr Qt hV hW (x V Qr Qt hV hW hq)), fun Qr Qt hq => t_326 fun V hV hW => b_326_0 (Tr_mono _) hV hW _ (q1 V Qr Qt hV hW (q V Qr Qt hV hW hq)), ru, ⟨XRF_tr fr1.1 fr.1, QRF_tr fr1.2 fr.2⟩, KPT_tr kp1 kp, (dn _ _ (dn1 (fun _ => False) (fun _ => False) ⟨fun _ h => h.elim, fun _ h => h.elim⟩)).imp (fun g x hx => g x (.inr hx)) (fun g i hx => g i (.inr (by rw [kp1.1.1]; omega)))⟩
end DUb
end T349_du
section T350_ho
/-! the run: whether an e of IF or WHEN is true (X 14 | Q 338) -/
def EFX (M M' : mm_) : Prop := (∀ r : Nat, r ≠ 0 → r ≠ 26 → M' r = M r) ∧ ∀ i : Int, i ≠ 45 → i ≠ 46 → i ≠ 47 → i ≠ 49 → i ≠ 50 → M' 0 i = M 0 i
def EFQ (N N' : mm_) : Prop := (∀ r : Nat, r ≠ 6 → r ≠ 243 → N' r = N r) ∧ ∀ i : Int, i ≠ 148 → i ≠ 149 → N' 6 i = N 6 i
section HOa
variable {z : Int} {M N M' N' M1 N1 : mm_} {A B : Int → Int} {n m e k t v c c' f fe T p i : Int}
theorem EFX_rf [Inhabited fz_] : EFX M M := ⟨fun _ _ _ => rfl, fun _ _ _ _ _ _ => rfl⟩
theorem EFQ_rf [Inhabited fz_] : EFQ N N := ⟨fun _ _ _ => rfl, fun _ _ _ => rfl⟩
theorem EFX_tr [Inhabited fz_] (h : EFX M M1) (g : EFX M1 M') : EFX M M' := ⟨fun r a b => (g.1 r a b).trans (h.1 r a b), fun i a b c d e => (g.2 i a b c d e).trans (h.2 i a b c d e)⟩
theorem EFQ_tr [Inhabited fz_] (h : EFQ N N1) (g : EFQ N1 N') : EFQ N N' := ⟨fun r a b => (g.1 r a b).trans (h.1 r a b), fun i a b => (g.2 i a b).trans (h.2 i a b)⟩
theorem EFX_up [Inhabited fz_] (h : i = 45 ∨ i = 46 ∨ i = 47 ∨ i = 49 ∨ i = 50) : EFX M (up_ M 0 i v) := ⟨fun r a _ => up_ne a, fun j a b c d e => upo (by lia)⟩
theorem EFX_ex [Inhabited fz_] : EFX M (exX M A n) := ⟨fun r a b => exX_r a b, fun i a _ _ _ _ => exX_0 a⟩
theorem EFQ_ex [Inhabited fz_] : EFQ N (exQ N B m e) := ⟨fun r a b => exQ_r a b, fun i a b => exQ_6 a b⟩
theorem XRF_ef [Inhabited fz_] (h : EFX M M') : XRF M M' := ⟨fun r hr => h.1 r (fun e => hr (by rw [e]; decide)) (fun e => hr (by rw [e]; decide)), fun i hi => h.2 i (fun e => hi (by rw [e]; decide)) (fun e => hi (by rw [e]; decide)) (fun e => hi (by rw [e]; decide)) (fun e => hi (by rw [e]; decide)) (fun e => hi (by rw [e]; decide))⟩
theorem QRF_ef [Inhabited fz_] (h : EFQ N N') : QRF N N' := ⟨fun r hr => h.1 r (fun e => hr (by rw [e]; decide)) (fun e => hr (by rw [e]; decide)), fun i hi => h.2 i (fun e => hi (by rw [e]; decide)) (fun e => hi (by rw [e]; decide))⟩
theorem TYA_ef [Inhabited fz_] (hA : TYA N) (h : EFQ N N') : TYA N' := TYA_c hA (TYT_Q (QRF_ef h)) (h.1 239 (by decide) (by decide))
theorem RU_ef [Inhabited fz_] (h : RU z M N) (hx : EFX M M') (hq : EFQ N N') : RU z M' N' := by
  obtain ⟨h1, h2, h3, h4, h5⟩ := h
  have x := hx.1
  have x0 := hx.2
  have q := hq.1
  have q6 := hq.2
  refine ⟨RI_c h1 ⟨x0 7 (by decide) (by decide) (by decide) (by decide) (by decide), x0 8 (by decide) (by decide) (by decide) (by decide) (by decide)⟩ (fun r hr => x r (fun c => by rw [c] at hr; revert hr; decide) (fun c => by rw [c] at hr; revert hr; decide)) (q 239 (by decide) (by decide)) (q6 19 (by decide) (by decide)) (fun r hr => q r (fun c => by rw [c] at hr; revert hr; decide) (fun c => by rw [c] at hr; revert hr; decide)), RRt_c h2 (x 21 (by decide) (by decide)) (x 22 (by decide) (by decide)) (q 239 (by decide) (by decide)) (q6 18 (by decide) (by decide)), RSC_c h3 (fun i hi => x0 i (fun c => by rw [c] at hi; revert hi; decide) (fun c => by rw [c] at hi; revert hi; decide) (fun c => by rw [c] at hi; revert hi; decide) (fun c => by rw [c] at hi; revert hi; decide) (fun c => by rw [c] at hi; revert hi; decide)) (fun i hi => q6 i (fun c => by rw [c] at hi; revert hi; decide) (fun c => by rw [c] at hi; revert hi; decide)), ROU_c h4 (fun i hi => x0 i (fun c => by rw [c] at hi; revert hi; decide) (fun c => by rw [c] at hi; revert hi; decide) (fun c => by rw [c] at hi; revert hi; decide) (fun c => by rw [c] at hi; revert hi; decide) (fun c => by rw [c] at hi; revert hi; decide)) (x 24 (by decide) (by decide)) (fun i hi => q6 i (fun c => by rw [c] at hi; revert hi; decide) (fun c => by rw [c] at hi; revert hi; decide)) (q 241 (by decide) (by decide)), REV_c h5 (fun i hi => x0 i (fun c => by rw [c] at hi; revert hi; decide) (fun c => by rw [c] at hi; revert hi; decide) (fun c => by rw [c] at hi; revert hi; decide) (fun c => by rw [c] at hi; revert hi; decide) (fun c => by rw [c] at hi; revert hi; decide)) (x 23 (by decide) (by decide)) (fun i hi => q6 i (fun c => by rw [c] at hi; revert hi; decide) (fun c => by rw [c] at hi; revert hi; decide)) (q 240 (by decide) (by decide))⟩
/-- the type of an instance and its tables -/
theorem PT_of [Inhabited fz_] (hP : PLr M N) (hT : 0 ≤ T ∧ T < N 6 19) : PTY (swc M) (tbN N) T := hP.2.1 T hT.1 (by rw [tbN_6 (by decide)]; exact hT.2)
theorem TIN_1 [Inhabited fz_] {g : Int → Int} (hs : TIN N g) (h1 : g 1 = T) : ∀ u, 0 ≤ u → u < N 171 T → N 182 (8 * T + u) = 2 → ∀ i, 0 ≤ i → i < (if 1 < N 183 (8 * T + u) then N 183 (8 * T + u) else 1) → 0 ≤ N 184 (8 * T + u) + i → N 184 (8 * T + u) + i < 16 → BV (g (6 + (N 184 (8 * T + u) + i))) := by subst h1; exact hs.1
theorem TYI_of [Inhabited fz_] (h : RU z M N) (hP : PLr M N) (hA : TYA N) (hk : 0 ≤ k ∧ k < M 0 7) : TYI N k (M 11 k) := by
  have n12 := h.1.1
  have hi := h.1.2.2.1 k hk.1 hk.2
  have e1 : N 239 (sB k + 1) = M 11 k := hi.1.2.1.symm
  have g := hA.1 k hk.1 (by omega) (by omega)
  have pt := PT_of hP hi.2.1.2.1
  unfold PTY at pt
  rw [tbN_r (q := 171) (by decide) (by decide), tbN_r (q := 172) (by decide) (by decide), tbN_r (q := 183) (by decide) (by decide), tbN_r (q := 184) (by decide) (by decide)] at pt
  intro u u0 u1 u2 i i0 i1
  have l16 := pt.2.2.1.2.2.1.2.2
  have q := (pt.2.2.2.1 u u0 u1).2.2
  have := TIN_1 g e1 u u0 u1 u2 i i0 i1 (by (clear h hP hA hk n12 hi e1 g pt u0 u1 u2 i1 l16; omega)) (by omega)
  rw [Int.add_assoc]
  exact this
theorem EVC_of [Inhabited fz_] (h : RU z M N) (hP : PLr M N) (hA : TYA N) (hk : 0 ≤ k ∧ k < M 0 7) (h46 : M 0 46 = k) : EVC z M N k (M 11 k) := ⟨h, hk, h46, rfl, hP, TYI_of h hP hA hk, hA.2.2⟩
theorem PL_b [Inhabited fz_] (hP : PLr M N) : M 4 3 ≤ 11200 ∧ N 6 75 ≤ 1200 ∧ N 6 90 ≤ 1200 ∧ N 6 104 ≤ 2400 := by
  have := hP.2.2.2.2.2
  rw [tbN_6 (by decide), tbN_6 (by decide), tbN_6 (by decide)] at this
  exact this
/-- X ends its steps of e's -/
theorem x_15e [Inhabited fz_] {x1 : Int} (hc : 0 ≤ c ∧ c < 12000) (h : 25 ≤ M 109 c) {V : vv_} {Qr : qr_} {Qt : qt_} (hV : Cl_ wd0 (Tr_ wd0 pg0 2) V Qr Qt m_15) (hW : Wk_ V) (g : Qr [.inl c] M) : V 10 [rr 0, ii x1, rr 109, ii c, none, none] [] M := b_15_10 (Tr_mono _) hV hW _ _ _ ⟨hc, by rw [if_neg (by omega)]; exact g⟩
theorem x_15s [Inhabited fz_] {Qr : qr_} {Qt : qt_} (h : ∀ V : vv_, Cl_ wd0 (Tr_ wd0 pg0 2) V Qr Qt m_15 → Wk_ V → V 10 [rr 0, ii c, rr 109, ii c, none, none] [] M) : Tr_ wd0 pg0 3 15 [.inr (.inr 0), .inl c] M Qr Qt := t_15 fun V hV hW => b_15_0 (Tr_mono _) hV hW _ _ (h V hV hW)
theorem ASK_b [Inhabited fz_] (hE : ASK (swc M) (tbN N) T c f) (hP : PLr M N) : ∃ c1 fe, fe ≤ 2400 ∧ c1 + 1 ≤ 11200 ∧ 0 ≤ c1 ∧ 0 ≤ f ∧ EXP (swc M) (tbN N) T c c1 f fe 2 ∧ M 109 c1 = 25 := by
  obtain ⟨c1, fe, h1, h2, h3, h4⟩ := hE
  have b := PL_b hP
  rw [tbN_6 (by decide)] at h1
  rw [swc_5] at h2
  rw [swc_109] at h4
  obtain ⟨l, e1, e2, e3, e4, e5, e6, e7, e8⟩ := id h3
  exact ⟨c1, fe, by omega, by (clear hP h1 h3 h4 e1 e2 e4 e5 e6 e7 e8; omega), by omega, e5, h3, h4⟩
theorem exX_i [Inhabited fz_] : exX M (M 26) n = up_ M 0 45 n := by unfold exX; rw [wr_id]
theorem j_14 [Inhabited fz_] (h : RU z M N) (hP : PLr M N) (hA : TYA N) (hk : 0 ≤ k ∧ k < M 0 7) (hE : ASK (swc M) (tbN N) (M 11 k) c f) : ∃ v M' N', BV v ∧ Ex_ 4 14 [.inr (.inr 0), .inl k, .inl c] M [.inl v] M' ∧ Ex_ 5 338 [.inr (.inr 6), .inl k, .inl f] N [.inl v] N' ∧ EFX M M' ∧ EFQ N N' := by
  obtain ⟨c1, fe, f1, f2, f3, f4, f5, f6⟩ := ASK_b hE hP
  have hx := EFX_up (M := M) (i := 46) (v := k) (by decide)
  have h1 := RU_ef h hx (EFQ_rf (N := N))
  have hP1 := PLr_c hP (XRF_ef hx) QRF_rf
  have e7 : up_ M 0 46 k 0 7 = M 0 7 := upo (by decide)
  have e11 : up_ M 0 46 k 11 = M 11 := up_ne (by decide)
  have ev := EVC_of (k := k) h1 hP1 hA (by rw [e7]; exact hk) up_at
  rw [e11] at ev
  have sw : swc (up_ M 0 46 k) = swc M := swc_e (XRF_ef hx)
  have e0 : up_ (up_ M 0 45 0) 0 46 k = exX (up_ M 0 46 k) (M 26) 0 := by
    rw [show M 26 = up_ M 0 46 k 26 from (up_ne (by decide)).symm, exX_i]
    funext r i; simp only [ua_]
    by_cases c : r = 0
    · subst c; simp only [if_true]; split <;> split <;> first | rfl | (clear h hP hA hk hE f1 f2 f3 f4 f5 f6 hx h1 hP1 e7 e11 ev sw; lia)
    · simp only [c, if_false]
  rcases ev_e (p := 0) (A := M 26) ev (by rw [sw]; exact f5) (by decide) (by (clear h hP hA hk hE f1 f4 f5 f6 hx h1 hP1 e7 e11 ev sw e0; lia)) (by omega) with ⟨A', B', v, x1, q1, e1, bv, _⟩ | ⟨e, A', n', B', m', v, he, x1, q1⟩
  · refine ⟨v, exX (up_ M 0 46 k) A' 1, exQ N B' 1 0, bv.1 rfl, fun Qr Qt g => t_14 fun V hV hW => b_14_0 (Tr_mono _) hV hW _ _ _ ?_, fun Qr Qt g => t_338 fun V hV hW => b_338_0 (Tr_mono _) hV hW _ _ _ ?_, EFX_tr hx EFX_ex, EFQ_ex⟩
    · rw [e0]
      refine x_15s fun V' hV' hW' => x1 c V' _ _ hV' hW' (x_15e (by (clear h hP hA hk hE f1 f4 f5 f6 hx h1 hP1 e7 e11 ev sw e0 x1 q1 e1 bv g hV hW hV' hW'; omega)) (by rw [exX_r (r := 109) (by decide) (by decide), up_ne (by decide)]; (clear h hP hA hk hE f1 f2 f3 f4 f5 hx h1 hP1 e7 e11 ev sw e0 x1 q1 e1 bv g hV hW hV' hW'; omega)) hV' hW' (ri_i ⟨by decide, ?_⟩))
      rw [show (0 : Int) + 1 = 1 from rfl, exX_26, e1]
      rcases bv.1 rfl with e | e
      · rw [if_pos e]; rw [e] at g; exact ⟨.inl rfl, g⟩
      · rw [if_neg (by (clear h hP hA hk hE f1 f2 f3 f4 f5 f6 hx h1 hP1 e7 e11 ev sw e0 x1 q1 e1 bv g hV hW hV' hW'; omega))]; rw [e] at g; exact ⟨.inr rfl, g⟩
    · rw [if_neg (by (clear h hP hA hk hE f1 f2 f3 f5 f6 hx h1 hP1 e7 e11 ev sw e0 x1 q1 e1 bv g hV hW; omega))]
      refine q1 _ _ (ri_i ?_)
      rw [exQ_149, if_pos rfl]
      rcases bv.1 rfl with e | e
      · rw [if_pos e]; rw [e] at g; exact ⟨.inl rfl, g⟩
      · rw [if_neg (by omega)]; rw [e] at g; exact ⟨.inr rfl, g⟩
  · refine ⟨0, up_ (exX (up_ M 0 46 k) A' n') 0 49 e, exQ N B' m' e, .inl rfl, fun Qr Qt g => t_14 fun V hV hW => b_14_0 (Tr_mono _) hV hW _ _ _ ?_, fun Qr Qt g => t_338 fun V hV hW => b_338_0 (Tr_mono _) hV hW _ _ _ ?_, EFX_tr hx (EFX_tr EFX_ex (EFX_up (by decide))), EFQ_ex⟩
    · rw [e0]
      refine x_15s fun V' hV' hW' => x1 c V' _ _ hV' hW' ⟨.inl rfl, b_14_31_7 (Tr_mono _) hV hW _ _ _ ⟨.inl rfl, g⟩⟩
    · rw [if_neg (by (clear h hP hA hk hE f1 f2 f3 f5 f6 hx h1 hP1 e7 e11 ev sw e0 he x1 q1 g hV hW; lia))]
      refine q1 _ _ (ri_i ?_)
      rw [exQ_149, if_neg (by (clear h hP hA hk hE f1 f2 f3 f4 f5 f6 hx h1 hP1 e7 e11 ev sw e0 x1 q1 g hV hW; lia))]; exact ⟨.inl rfl, g⟩
end HOa
end T350_ho
section T351_un
/-! the run: a timer is reset (X 28 | Q 352) -/
def uqf (g : Int → Int) (b i : Int) : Int → Int := su_ (flf (cpf g (b + 1 + 5 * i) (b + 26) 5) (b + 26) (b + 31) 0) b (g b - 1)
def JQ (k n : Int) (f g : Int → Int) (i m : Int) : Prop := (0 ≤ m ∧ m ≤ i ∧ i ≤ n ∧ n ≤ 6) ∧ (∀ j, 0 ≤ j → j < 5 * m → f (30 * k + j) = g (sB k + 26 + j)) ∧ (∀ j, 5 * i ≤ j → j < 5 * n → f (30 * k + j) = g (sB k + 26 + (j - 5 * (i - m)))) ∧ g (sB k + 25) = m + n - i ∧ ∀ j, 5 * (m + n - i) ≤ j → j < 30 → g (sB k + 26 + j) = 0
section UNa
variable {z : Int} {M N M' N' : mm_} {f g f' g' : Int → Int} {k t n i m j q δ lo x v : Int}
theorem cpf_s0 [Inhabited fz_] {r : Nat} (h0 : lo ≤ x) (hd : 0 ≤ δ) : up_ (wr_ M r (cpf f lo x δ)) r x (cpf f lo x δ (x + δ)) = wr_ M r (cpf f lo (x + 1) δ) := by
  rw [up_wr]
  congr 1
  funext i
  unfold su_
  by_cases c : i = x
  · rw [if_pos c, c]; unfold cpf; rw [if_neg (by (clear h0 c; lia)), if_pos (by omega)]
  · rw [if_neg c]
    unfold cpf
    by_cases c2 : lo ≤ i ∧ i < x
    · rw [if_pos c2, if_pos (by omega)]
    · rw [if_neg c2, if_neg (by (clear h0 hd; omega))]
/-- X: an item moves up -/
theorem l_57u [Inhabited fz_] (hk : 0 ≤ k ∧ k < 12) (h46 : M 0 46 = k) (hi : 0 ≤ m ∧ m ≤ i ∧ i ≤ 5) : ∀ (d : Nat) (q : Int), q + d = 5 → 0 ≤ q → RC 1 m_28 57 [rr 0, ii t, ii m, ii i, ii q] (wr_ M 15 (cpf f (30 * k + 5 * m) (30 * k + 5 * m + q) (5 * (i - m)))) 18 [rr 0, ii t, ii (m + 1), ii (i + 1), none] (wr_ M 15 (cpf f (30 * k + 5 * m) (30 * k + 5 * m + 5) (5 * (i - m)))) := fun d => by
  have e46 : ∀ h : Int → Int, wr_ M 15 h 0 46 = k := fun h => by rw [wr_ne (by decide)]; exact h46
  induction d with
  | zero =>
    intro q hq q0 V Qr Qt hV hW h
    refine b_28_57 (Tr_mono _) hV hW _ _ _ _ _ ?_
    rw [if_neg (by omega), w32_id (x := m + 1) (by omega) (by omega), w32_id (x := i + 1) (by omega) (by omega), show q = 5 by omega]; exact h
  | succ d ih =>
    intro q hq q0 V Qr Qt hV hW h
    have g := ih (q + 1) (by omega) (by omega) V Qr Qt hV hW h
    refine b_28_57 (Tr_mono _) hV hW _ _ _ _ _ ?_
    rw [if_pos (by omega)]
    rw [e46]
    refine x_9 (by omega) (by omega) _ _ (ri_i ?_)
    rw [e46]
    refine x_9 (by omega) (by omega) _ _ (ri_i ?_)
    rw [w32_id (x := 30 * k + 5 * i + q) (by (clear e46 ih hV hW h g; lia)) (by (clear e46 ih hV hW h g; omega)), w32_id (x := 30 * k + 5 * m + q) (by omega) (by (clear e46 ih hV hW h g; omega)), w32_id (x := q + 1) (by omega) (by omega), wr_same]
    refine ⟨by omega, by omega, ?_⟩
    rw [show 30 * k + 5 * i + q = 30 * k + 5 * m + q + 5 * (i - m) by (clear hk h46 hi e46 ih hq q0 hV hW h g; lia), cpf_s0 (by omega) (by omega), Int.add_assoc]
    exact g
/-- Q: an item leaves the queue -/
theorem q_353 [Inhabited fz_] (hk : 0 ≤ k ∧ k < 12) (hi : 0 ≤ i ∧ i ≤ 5) (hl : 0 ≤ g (sB k + 25) ∧ g (sB k + 25) ≤ 6) : Ex_ 2 353 [.inr (.inr 6), .inl k, .inl i] (wr_ N 239 g) [] (wr_ N 239 (uqf g (sB k + 25) i)) := by
  have hB : sB k = 2 + 56 * k := rfl
  have fz : ∀ (d : Nat) (x : Int), x + d = sB k + 56 → sB k + 51 ≤ x → ∀ (V : vv_) (Qr : qr_) (Qt : qt_), Cl_ wd0 (Tr_ wd0 pg0 1) V Qr Qt m_353 → Wk_ V → Qr [] (wr_ N 239 (uqf g (sB k + 25) i)) → V 58 [rr 6, ii k, ii i, ii (sB k + 25), ii x] [] (wr_ N 239 (flf (cpf g (sB k + 26 + 5 * i) (sB k + 51) 5) (sB k + 51) x 0)) := fun d => by
    induction d with
    | zero =>
      intro x hx x0 V Qr Qt hV hW h
      refine b_353_58 (Tr_mono _) hV hW _ _ _ _ _ ?_
      rw [w32_id (x := sB k + 25 + 1) (by (clear hi hl hx x0 hV hW h; lia)) (by omega), w32_id (x := sB k + 25 + 1 + 30) (by omega) (by omega), if_neg (by omega), wr_same]
      refine ⟨by omega, by omega, ?_⟩
      have e : flf (cpf g (sB k + 26 + 5 * i) (sB k + 51) 5) (sB k + 51) x 0 (sB k + 25) = g (sB k + 25) := by unfold flf cpf; rw [if_neg (by omega), if_neg (by omega)]
      rw [e, w32_id (x := g (sB k + 25) - 1) (by omega) (by omega), up_wr]
      unfold uqf at h
      rw [show sB k + 25 + 1 + 5 * i = sB k + 26 + 5 * i by (clear hk hi hl hB hx x0 hV hW h e; lia), show sB k + 25 + 26 = sB k + 51 by omega, show sB k + 25 + 31 = x by (clear hk hi hl x0 hV hW h e; lia)] at h
      exact h
    | succ d ih =>
      intro x hx x0 V Qr Qt hV hW h
      have h' := ih (x + 1) (by omega) (by omega) V Qr Qt hV hW h
      refine b_353_58 (Tr_mono _) hV hW _ _ _ _ _ ?_
      rw [w32_id (x := sB k + 25 + 1) (by (clear hi hl ih hx x0 hV hW h h'; omega)) (by omega), w32_id (x := sB k + 25 + 1 + 30) (by (clear hi hl ih hx x0 hV hW h h'; lia)) (by omega), if_pos (by omega), w32_id (x := x + 1) (by omega) (by omega), flf_s x0]
      exact ⟨by omega, h'⟩
  have fc : ∀ (d : Nat) (x : Int), x + d = sB k + 51 → sB k + 26 + 5 * i ≤ x → ∀ (V : vv_) (Qr : qr_) (Qt : qt_), Cl_ wd0 (Tr_ wd0 pg0 1) V Qr Qt m_353 → Wk_ V → Qr [] (wr_ N 239 (uqf g (sB k + 25) i)) → V 17 [rr 6, ii k, ii i, ii (sB k + 25), ii x] [] (wr_ N 239 (cpf g (sB k + 26 + 5 * i) x 5)) := fun d => by
    induction d with
    | zero =>
      intro x hx x0 V Qr Qt hV hW h
      refine b_353_17 (Tr_mono _) hV hW _ _ _ _ _ ?_
      rw [w32_id (x := sB k + 25 + 1) (by omega) (by omega), w32_id (x := sB k + 25 + 1 + 25) (by (clear hi hl fz hx x0 hV hW h; lia)) (by (clear hi hl fz hx x0 hV hW h; omega)), if_neg (by omega), show sB k + 25 + 1 + 25 = sB k + 51 by (clear hk hi hl hB fz hx x0 hV hW h; lia), show x = sB k + 51 by (clear hk hi hl fz x0 hV hW h; lia)]
      have h' := fz 5 (sB k + 51) (by (clear hk hi hl hB fz hx x0 hV hW h; omega)) (by omega) V Qr Qt hV hW h
      rw [flf_0] at h'
      exact h'
    | succ d ih =>
      intro x hx x0 V Qr Qt hV hW h
      have h' := ih (x + 1) (by (clear hk hi hl fz ih x0 hV hW h; lia)) (by omega) V Qr Qt hV hW h
      refine b_353_17 (Tr_mono _) hV hW _ _ _ _ _ ?_
      rw [w32_id (x := sB k + 25 + 1) (by omega) (by omega), w32_id (x := sB k + 25 + 1 + 25) (by omega) (by (clear hi hl fz ih hx x0 hV hW h h'; omega)), if_pos (by omega), w32_id (x := x + 1) (by (clear hl fz ih hV hW h h'; omega)) (by omega), w32_id (x := x + 5) (by omega) (by omega), wr_same, cpf_s x0 (by decide)]
      exact ⟨by omega, by (clear hl fz ih hV hW h h'; omega), h'⟩
  exact fun Qr Qt h => t_353 fun V hV hW => b_353_0 (Tr_mono _) hV hW _ _ _ (q_323 (by omega) _ _ (ri_i (by
    have h' := fc (25 - 5 * i).toNat (sB k + 26 + 5 * i) (by omega) (by omega) V Qr Qt hV hW h
    rw [cpf_0] at h'
    rw [w32_id (x := sB k + 25) (by omega) (by omega), w32_id (x := sB k + 25 + 1) (by omega) (by omega), w32_id (x := 5 * i) (by (clear hk hl hB fz fc h hV hW h'; lia)) (by omega), w32_id (x := sB k + 25 + 1 + 5 * i) (by (clear hl fz fc h hV hW h'; lia)) (by omega), show sB k + 25 + 1 + 5 * i = sB k + 26 + 5 * i by (clear hk hi hl hB fz fc h hV hW h'; lia)]
    exact h')))
theorem uqf_o [Inhabited fz_] (h : 0 ≤ i) (hj : j < sB k + 25 ∨ sB k + 56 ≤ j) : uqf g (sB k + 25) i j = g j := by
  unfold uqf su_ flf cpf; rw [if_neg (by (clear h; omega)), if_neg (by omega), if_neg (by lia)]
theorem uqf_25 [Inhabited fz_] : uqf g (sB k + 25) i (sB k + 25) = g (sB k + 25) - 1 := by unfold uqf su_; rw [if_pos rfl]
theorem uqf_lo [Inhabited fz_] (h : 0 ≤ j ∧ j < 5 * i) : uqf g (sB k + 25) i (sB k + 26 + j) = g (sB k + 26 + j) ∨ 25 ≤ j := by
  by_cases c : 25 ≤ j
  · exact .inr c
  · left; unfold uqf su_ flf cpf; rw [if_neg (by omega), if_neg (by omega), if_neg (by omega)]
theorem uqf_hi [Inhabited fz_] (h : 5 * i ≤ j ∧ j < 25) (h0 : 0 ≤ i) : uqf g (sB k + 25) i (sB k + 26 + j) = g (sB k + 26 + (j + 5)) := by
  unfold uqf su_ flf cpf; rw [if_neg (by lia), if_neg (by (clear h0; omega)), if_pos (by omega), show sB k + 26 + j + 5 = sB k + 26 + (j + 5) by (clear h h0; lia)]
theorem uqf_z [Inhabited fz_] (h : 25 ≤ j ∧ j < 30) : uqf g (sB k + 25) i (sB k + 26 + j) = 0 := by
  unfold uqf su_ flf; rw [if_neg (by omega), if_pos (by omega)]
theorem TYT_wr [Inhabited fz_] {h : Int → Int} : TYT N (wr_ N 239 h) := ⟨fun r hr => wr_ne (fun e => by rw [e] at hr; revert hr; decide), by rw [wr_ne (by decide)], by rw [wr_ne (by decide)]⟩
theorem TYT_ww [Inhabited fz_] {h h' : Int → Int} : TYT (wr_ N 239 h) (wr_ N 239 h') := ⟨fun r hr => by rw [wr_ne (fun e => by rw [e] at hr; revert hr; decide), wr_ne (fun e => by rw [e] at hr; revert hr; decide)], by rw [wr_ne (by decide), wr_ne (by decide)], by rw [wr_ne (by decide), wr_ne (by decide)]⟩
theorem TYA_uq [Inhabited fz_] (hA : TYA (wr_ N 239 g)) (hk : 0 ≤ k ∧ k < 12) (h0 : k < g 0) (hi : 0 ≤ i ∧ i < g (sB k + 25)) (hl : g (sB k + 25) ≤ 6) : TYA (wr_ N 239 (uqf g (sB k + 25) i)) := by
  have hB : sB k = 2 + 56 * k := rfl
  have gk := hA.1 k hk.1 hk.2 (by rw [wr_same]; exact h0)
  rw [wr_same] at gk
  refine TYA_k hA TYT_ww hk (fun j hj => by rw [wr_same, wr_same]; exact uqf_o hi.1 (by (clear hA hk h0 hi hl gk; omega))) ?_ (fun j j0 j1 => by
    have r9 := hA.2.2
    unfold RG9 at r9
    rw [wr_same] at r9 ⊢
    unfold uqf su_ flf cpf
    have z0 : R32 0 := by unfold R32; (clear hA hk h0 hi hl hB gk j0 j1 r9; lia)
    have z1 : R32 (g (sB k + 25) - 1) := by unfold R32; omega
    repeat' split
    all_goals first | assumption | exact r9 _)
  rw [wr_same]
  refine TIN_q gk TYT_ww (uqf_o hi.1 (by omega)) (fun j j0 j1 => uqf_o hi.1 (by omega)) (fun q q0 q1 q2 => ?_)
  have q2 : q < uqf g (sB k + 25) i (sB k + 25) := q2
  rw [uqf_25] at q2
  by_cases c : q < i
  · have e : ∀ d, 0 ≤ d → d < 5 → uqf g (sB k + 25) i (sB k + 26 + (5 * q + d)) = g (sB k + 26 + (5 * q + d)) := fun d d0 d1 => by
      rcases uqf_lo (g := g) (k := k) (i := i) (j := 5 * q + d) (by (clear hA hk h0 hB gk; lia)) with h | h
      · exact h
      · omega
    have s := gk.2 q q0 q1 (show q < g (sB k + 25) by omega)
    have e0 := e 0 (by decide) (by decide)
    show SGV _ (uqf g (sB k + 25) i (sB k + (26 + 5 * q))) _
    rw [show sB k + (26 + 5 * q) = sB k + 26 + (5 * q + 0) by (clear hA hk h0 hi hl hB gk q0 q1 q2 c e s e0; lia), e0, show sB k + 26 + (5 * q + 0) = sB k + (26 + 5 * q) by (clear hA hk h0 hi hl hB gk q0 q1 q2 c e s e0; lia)]
    exact SGV_c s TYT_ww (fun v v0 v1 => by
      have := e (2 + v) (by omega) (by omega)
      rw [show sB k + 26 + (5 * q + (2 + v)) = sB k + (28 + 5 * q + v) by (clear hA hk h0 hi hl hB gk q0 q1 q2 c e s e0 v0 v1 this; lia)] at this; exact this)
  · have e : ∀ d, 0 ≤ d → d < 5 → uqf g (sB k + 25) i (sB k + 26 + (5 * q + d)) = g (sB k + 26 + (5 * q + d + 5)) := fun d d0 d1 => uqf_hi (by omega) hi.1
    have s := gk.2 (q + 1) (by omega) (by omega) (show q + 1 < g (sB k + 25) by omega)
    have e0 := e 0 (by decide) (by decide)
    show SGV _ (uqf g (sB k + 25) i (sB k + (26 + 5 * q))) _
    rw [show sB k + (26 + 5 * q) = sB k + 26 + (5 * q + 0) by omega, e0, show sB k + 26 + (5 * q + 0 + 5) = sB k + (26 + 5 * (q + 1)) by (clear hA hk h0 hi hl hB gk q0 q1 q2 c e s e0; lia)]
    exact SGV_c s TYT_ww (fun v v0 v1 => by
      have := e (2 + v) (by omega) (by omega)
      rw [show sB k + 26 + (5 * q + (2 + v)) = sB k + (28 + 5 * q + v) by omega, show sB k + 26 + (5 * q + (2 + v) + 5) = sB k + (28 + 5 * (q + 1) + v) by (clear hA hk h0 hi hl hB gk q0 q1 q2 c e s e0 v0 v1 this; lia)] at this; exact this)
theorem l_18u [Inhabited fz_] (hk : 0 ≤ k ∧ k < 12) (h46 : M 0 46 = k) (h14 : M 14 k = n) (ht : 0 ≤ t ∧ t < 3) : ∀ (d : Nat) (i m : Int) (f g : Int → Int), i + d = n → 0 ≤ i → JQ k n f g i m → k < g 0 → ∃ f' g' m', (∀ (V : vv_) (Qr : qr_) (Qt : qt_), Cl_ wd0 (Tr_ wd0 pg0 1) V Qr Qt m_28 → Wk_ V → Qr [] (up_ (wr_ M 15 f') 14 k m') → V 18 [rr 0, ii t, ii m, ii i, none] [] (wr_ M 15 f)) ∧ (∀ (V : vv_) (Qr : qr_) (Qt : qt_), Cl_ wd0 (Tr_ wd0 pg0 2) V Qr Qt m_352 → Wk_ V → Qr [] (wr_ N 239 g') → V 20 [rr 6, ii k, ii t, ii (sB k), ii m] [] (wr_ N 239 g)) ∧ JQ k n f' g' n m' ∧ (∀ j, j < 30 * k ∨ 30 * k + 30 ≤ j → f' j = f j) ∧ (∀ j, j < sB k + 25 ∨ sB k + 56 ≤ j → g' j = g j) ∧ (TYA (wr_ N 239 g) → TYA (wr_ N 239 g')) := fun d => by
  have hB : sB k = 2 + 56 * k := rfl
  have e46 : ∀ h : Int → Int, wr_ M 15 h 0 46 = k := fun h => by rw [wr_ne (by decide)]; exact h46
  have e14 : ∀ h : Int → Int, wr_ M 15 h 14 k = n := fun h => by rw [wr_ne (by decide)]; exact h14
  induction d with
  | zero =>
    intro i m f g hd i0 hJ hg0
    have hi : i = n := by omega
    subst hi
    obtain ⟨a1, a2, a3, a4, a5⟩ := id hJ
    refine ⟨f, g, m, fun V Qr Qt hV hW h => b_28_18 (Tr_mono _) hV hW _ _ _ _ ?_, fun V Qr Qt hV hW h => b_352_20 (Tr_mono _) hV hW _ _ _ _ _ ?_, hJ, fun _ _ => rfl, fun _ _ => rfl, id⟩
    · rw [e46, e14, if_neg (by omega)]; exact ⟨by omega, by omega, h⟩
    · rw [wr_same, w32_id (x := sB k + 25) (by omega) (by omega), a4, if_neg (by (clear hk h46 ht hB e46 i0 hg0 h14 e14 hd hJ a1 a2 a3 a4 a5 hV hW h; lia))]; exact ⟨by omega, h⟩
  | succ d ih =>
    intro i m f g hd i0 hJ hg0
    obtain ⟨a1, a2, a3, a4, a5⟩ := id hJ
    have hit := a3 (5 * i) (by (clear hk h46 h14 ht hB e46 e14 ih hd i0 hJ hg0 a1 a2 a3 a4 a5; lia)) (by (clear hk h46 h14 ht hB e46 e14 ih i0 hJ hg0 a1 a2 a3 a5; lia))
    rw [show 5 * i - 5 * (i - m) = 5 * m by (clear hk h46 h14 ht hB e46 e14 ih hd i0 hJ hg0 a1 a2 a3 a4 a5 hit; lia)] at hit
    by_cases c : f (30 * k + 5 * i) = 100 + t
    · have hJ' : JQ k n f (uqf g (sB k + 25) m) (i + 1) m := by
        refine ⟨by (clear hk h46 h14 ht hB e46 e14 ih i0 hJ hg0 a2 a3 a5 hit c; omega), fun j j0 j1 => ?_, fun j j0 j1 => ?_, ?_, fun j j0 j1 => ?_⟩
        · rcases uqf_lo (g := g) (k := k) (i := m) (j := j) ⟨j0, j1⟩ with h | h
          · rw [h]; exact a2 j j0 j1
          · omega
        · rw [uqf_hi (by omega) (by (clear hk h46 h14 ht hB e46 e14 ih hd i0 hJ hg0 a2 a3 a4 a5 hit c j0 j1; omega)), show j - 5 * (i + 1 - m) + 5 = j - 5 * (i - m) by (clear hk h46 h14 ht hB e46 e14 ih hd i0 hJ hg0 a1 a2 a3 a4 a5 hit c j0 j1; lia)]; exact a3 j (by (clear hk h46 h14 ht hB e46 e14 ih hd i0 hJ hg0 a1 a2 a3 a4 a5 hit c j1; lia)) j1
        · rw [uqf_25, a4]; (clear hk h46 h14 ht hB e46 e14 ih hd i0 hJ hg0 a1 a2 a3 a4 a5 hit c; lia)
        · by_cases c9 : 25 ≤ j
          · exact uqf_z (by (clear hk h46 h14 ht hB e46 e14 ih hd i0 hJ hg0 a1 a2 a3 a4 a5 hit c j0; omega))
          · rw [uqf_hi (by (clear hk h46 h14 ht hB e46 e14 ih hJ hg0 a2 a3 a5 hit c j1; lia)) (by omega)]; exact a5 _ (by omega) (by (clear hk h46 h14 ht hB e46 e14 ih hd i0 hJ hg0 a1 a2 a3 a4 a5 hit c j0 j1; omega))
      obtain ⟨f', g', m', x1, q1, j1, o1, o2, ty⟩ := ih (i + 1) m f (uqf g (sB k + 25) m) (by (clear hk h46 h14 ht hB e46 e14 ih i0 hJ hg0 a1 a2 a3 a4 a5 hit c hJ'; lia)) (by (clear hk h46 h14 ht hB e46 e14 ih hd hJ hg0 a1 a2 a3 a4 a5 hit c hJ'; omega)) hJ' (by rw [uqf_o (by omega) (by (clear h14 ht e46 e14 ih hd i0 hJ hg0 a1 a2 a3 a4 a5 hit c hJ'; omega))]; exact hg0)
      refine ⟨f', g', m', fun V Qr Qt hV hW h => b_28_18 (Tr_mono _) hV hW _ _ _ _ ?_, fun V Qr Qt hV hW h => b_352_20 (Tr_mono _) hV hW _ _ _ _ _ ?_, j1, o1, fun j hj => (o2 j hj).trans (uqf_o (by omega) hj), fun hA => ty (TYA_uq hA hk hg0 (by omega) (by omega))⟩
      · rw [e46, e14, if_pos (by (clear hk h46 h14 ht hB e46 e14 ih i0 hJ hg0 a1 a2 a3 a5 hit c hJ' x1 q1 j1 o1 o2 ty hV hW h; omega))]
        refine ⟨by omega, x_9 (by omega) (by (clear hk h46 h14 ht hB e46 e14 ih hJ hg0 a2 a3 a5 hit c hJ' x1 q1 j1 o1 o2 ty hV hW h; lia)) _ _ (ri_i ⟨by (clear h14 ht hB e46 e14 ih hJ hg0 a2 a3 a5 hit c hJ' x1 q1 j1 o1 o2 ty hV hW h; lia), ?_⟩)⟩
        rw [wr_same, w32_id (x := 100 + t) (by (clear hk h46 h14 hB e46 e14 ih hd i0 hJ hg0 a1 a2 a3 a4 a5 hJ' x1 q1 j1 o1 o2 ty hV hW h; lia)) (by (clear hk h46 h14 hB e46 e14 ih hd i0 hJ hg0 a1 a2 a3 a4 a5 hJ' x1 q1 j1 o1 o2 ty hV hW h; lia)), if_pos c, w32_id (x := i + 1) (by (clear hk h46 h14 ht hB e46 e14 ih hd hJ hg0 a1 a2 a3 a4 a5 hit c hJ' x1 q1 j1 o1 o2 ty hV hW h; lia)) (by (clear hk h46 h14 ht hB e46 e14 ih i0 hJ hg0 a2 a3 a5 hit c hJ' x1 q1 j1 o1 o2 ty hV hW h; omega))]
        exact x1 V Qr Qt hV hW h
      · rw [wr_same, w32_id (x := sB k + 25) (by omega) (by omega), a4, if_pos (by (clear hk h46 h14 ht hB e46 e14 ih i0 hJ hg0 a1 a2 a3 a5 hit c hJ' x1 q1 j1 o1 o2 ty hV hW h; omega)), w32_id (x := sB k + 25 + 1) (by omega) (by omega), w32_id (x := 5 * m) (by omega) (by (clear hk h46 h14 ht hB e46 e14 ih i0 hJ hg0 a2 a3 a5 hit c hJ' x1 q1 j1 o1 o2 ty hV hW h; lia)), w32_id (x := sB k + 25 + 1 + 5 * m) (by omega) (by (clear h14 ht e46 e14 ih i0 hJ hg0 a2 a3 a5 hit c hJ' x1 q1 j1 o1 o2 ty hV hW h; lia)), show sB k + 25 + 1 + 5 * m = sB k + 26 + 5 * m by (clear hk h46 h14 ht hB e46 e14 ih hd i0 hJ hg0 a1 a2 a3 a4 a5 hit c hJ' x1 q1 j1 o1 o2 ty hV hW h; lia), ← hit, c, w32_id (x := 100 + t) (by omega) (by omega), if_pos rfl]
        exact ⟨by (clear h14 ht e46 e14 ih hd i0 hJ hg0 a1 a2 a3 a4 a5 hit c hJ' x1 q1 j1 o1 o2 ty hV hW h; lia), by omega, q_353 hk (by (clear hk h46 h14 ht hB e46 e14 ih i0 hJ hg0 a2 a3 a5 hit c hJ' x1 q1 j1 o1 o2 ty hV hW h; lia)) (by (clear hk h46 h14 ht hB e46 e14 ih hJ hg0 a2 a3 a5 hit c hJ' x1 q1 j1 o1 o2 ty hV hW h; lia)) _ _ (rv_i (q1 V Qr Qt hV hW h))⟩
    · have hJ' : JQ k n (cpf f (30 * k + 5 * m) (30 * k + 5 * m + 5) (5 * (i - m))) g (i + 1) (m + 1) := by
        refine ⟨by (clear hk h46 h14 ht hB e46 e14 ih i0 hJ hg0 a2 a3 a5 hit c; omega), fun j j0 j1 => ?_, fun j j0 j1 => ?_, by rw [a4]; omega, fun j j0 j1 => a5 j (by (clear hk h46 h14 ht hB e46 e14 ih i0 hJ hg0 a1 a2 a3 a5 hit c j1; lia)) j1⟩
        · unfold cpf
          by_cases c9 : j < 5 * m
          · rw [if_neg (by (clear hk h46 h14 ht hB e46 e14 ih hd i0 hJ hg0 a1 a2 a3 a4 a5 hit c j0 j1; omega))]; exact a2 j j0 c9
          · rw [if_pos (by (clear hk h46 h14 ht hB e46 e14 ih hd i0 hJ hg0 a1 a2 a3 a4 a5 hit c j0; lia)), show 30 * k + j + 5 * (i - m) = 30 * k + (j + 5 * (i - m)) by (clear hk h46 h14 ht hB e46 e14 ih hd i0 hJ hg0 a1 a2 a3 a4 a5 hit c j0 j1 c9; lia), a3 _ (by (clear hk h46 h14 ht hB e46 e14 ih hd i0 hJ hg0 a1 a2 a3 a4 a5 hit c j0; lia)) (by (clear hk h46 h14 ht hB e46 e14 ih hJ hg0 a2 a3 a5 hit c j0; lia)), show j + 5 * (i - m) - 5 * (i - m) = j by (clear hk h46 h14 ht hB e46 e14 ih hd i0 hJ hg0 a1 a2 a3 a4 a5 hit c j0 j1 c9; lia)]
        · unfold cpf
          rw [if_neg (by (clear hk h46 h14 ht hB e46 e14 ih hd i0 hJ hg0 a2 a3 a4 a5 hit c j1; lia)), show j - 5 * (i + 1 - (m + 1)) = j - 5 * (i - m) by (clear hk h46 h14 ht hB e46 e14 ih hd i0 hJ hg0 a1 a2 a3 a4 a5 hit c j0 j1; lia)]; exact a3 j (by omega) j1
      obtain ⟨f', g', m', x1, q1, j1, o1, o2, ty⟩ := ih (i + 1) (m + 1) _ g (by omega) (by omega) hJ' hg0
      refine ⟨f', g', m', fun V Qr Qt hV hW h => b_28_18 (Tr_mono _) hV hW _ _ _ _ ?_, fun V Qr Qt hV hW h => b_352_20 (Tr_mono _) hV hW _ _ _ _ _ ?_, j1, fun j hj => (o1 j hj).trans (by unfold cpf; rw [if_neg (by (clear hk h14 ht hB e46 e14 ih i0 hJ hg0 a2 a3 a5 hit c hJ' x1 q1 j1 o1 o2 ty; lia))]), o2, ty⟩
      · rw [e46, e14, if_pos (by omega)]
        refine ⟨by omega, x_9 (by omega) (by omega) _ _ (ri_i ⟨by omega, ?_⟩)⟩
        rw [wr_same, w32_id (x := 100 + t) (by omega) (by omega), if_neg c]
        have l := l_57u (M := M) (f := f) (t := t) hk h46 (m := m) (i := i) (by (clear hk h46 h14 ht hB e46 e14 ih i0 hJ hg0 a2 a3 a5 hit c hJ' x1 q1 j1 o1 o2 ty hV hW h; lia)) 5 0 (by decide) (by decide)
        rw [Int.add_zero, cpf_0] at l
        exact l V Qr Qt hV hW (x1 V Qr Qt hV hW h)
      · rw [wr_same, w32_id (x := sB k + 25) (by omega) (by omega), a4, if_pos (by omega), w32_id (x := sB k + 25 + 1) (by omega) (by omega), w32_id (x := 5 * m) (by omega) (by omega), w32_id (x := sB k + 25 + 1 + 5 * m) (by omega) (by omega), show sB k + 25 + 1 + 5 * m = sB k + 26 + 5 * m by omega, ← hit, w32_id (x := 100 + t) (by omega) (by omega), if_neg c, w32_id (x := m + 1) (by omega) (by (clear hk h46 h14 ht hB e46 e14 ih i0 hJ hg0 a2 a3 a5 hit c hJ' x1 q1 j1 o1 o2 ty hV hW h; lia))]
        exact ⟨by omega, by omega, q1 V Qr Qt hV hW h⟩
/-- a timer is reset -/
theorem j_28 [Inhabited fz_] (h : RU z M N) (hk : 0 ≤ k ∧ k < M 0 7) (h46 : M 0 46 = k) (ht : 0 ≤ t ∧ t < 3) : ∃ M' N', Ex_ 2 28 [.inr (.inr 0), .inl t] M [] M' ∧ Ex_ 3 352 [.inr (.inr 6), .inl k, .inl t] N [] N' ∧ RU z M' N' ∧ (∀ r : Nat, r ∉ [14, 15, 16] → M' r = M r) ∧ (∀ r : Nat, r ≠ 239 → N' r = N r) ∧ (M' 16 = up_ M 16 (3 * k + t) 0 16 ∧ ∀ j, j < sB k + 25 ∨ sB k + 56 ≤ j → N' 239 j = up_ N 239 (sB k + 22 + t) (-1) 239 j) ∧ (TYA N → TYA N') := by
  have hB : sB k = 2 + 56 * k := rfl
  have n12 := h.1.1
  have h1 := RU_of h hk ht
  have e07 : up_ M 16 (3 * k + t) 0 0 = M 0 := up_ne (by decide)
  have hi := h1.1.2.2.1 k hk.1 (by rw [e07]; exact hk.2)
  have e14 : up_ M 16 (3 * k + t) 0 14 = M 14 := up_ne (by decide)
  obtain ⟨⟨q1, q2, q3⟩, q4, q5⟩ := hi.2.2.2.2
  rw [e14] at q1 q2 q3 q4 q5
  have hJ : JQ k (M 14 k) (up_ M 16 (3 * k + t) 0 15) (up_ N 239 (sB k + 22 + t) (-1) 239) 0 0 := ⟨by (clear h hk h46 ht hB n12 h1 e07 hi e14 q4 q5; lia), fun j j0 j1 => by omega, fun j j0 j1 => by rw [show j - 5 * (0 - 0) = j by omega]; exact q4 j (by omega) j1, by rw [q3]; omega, fun j j0 j1 => q5 j (by (clear h hk h46 ht hB n12 h1 e07 hi e14 q1 q2 q4 q5 j1; lia)) j1⟩
  obtain ⟨f', g', m', x1, y1, j1, o1, o2, ty⟩ := l_18u (N := up_ N 239 (sB k + 22 + t) (-1)) (t := t) (by omega) (show up_ M 16 (3 * k + t) 0 0 46 = k by rw [e07]; exact h46) (show up_ M 16 (3 * k + t) 0 14 k = M 14 k by rw [e14]) ht (M 14 k).toNat 0 0 _ _ (by (clear h hk h46 ht hB n12 h1 e07 hi e14 q4 q5 hJ; lia)) (by decide) hJ (by rw [upo (by omega)]; (clear h ht hB h1 e07 hi e14 q1 q2 q3 q4 q5 hJ; omega))
  rw [wr_id] at x1 y1 ty
  obtain ⟨a1, a2, a3, a4, a5⟩ := j1
  refine ⟨up_ (wr_ (up_ M 16 (3 * k + t) 0) 15 f') 14 k m', wr_ (up_ N 239 (sB k + 22 + t) (-1)) 239 g', fun Qr Qt g => t_28 fun V hV hW => b_28_0 (Tr_mono _) hV hW _ _ ?_, fun Qr Qt g => t_352 fun V hV hW => b_352_0 (Tr_mono _) hV hW _ _ _ (Ex_le (d := 1) (by decide) (q_323 (by (clear h ht hB h1 e07 hi e14 q1 q2 q3 q4 q5 hJ x1 y1 o1 o2 ty a1 a2 a3 a4 a5 g hV hW; lia))) _ _ (ri_i ?_)), ?_, fun r hr => ?_, fun r hr => ?_, ⟨?_, fun j hj => ?_⟩, fun hA => ty (by rw [Int.add_assoc]; exact TYA_239 hA (by omega) (22 + t) (-1) (by (clear h hk h46 hB n12 h1 e07 hi e14 q1 q2 q3 q4 q5 hJ x1 y1 o1 o2 ty a1 a2 a3 a4 a5 hA; omega)) (by omega) ⟨by decide, by decide⟩)⟩
  · rw [h46, w32_id (x := 3 * k) (by omega) (by omega), w32_id (x := 3 * k + t) (by omega) (by (clear h hB h1 e07 hi e14 q1 q2 q3 q4 q5 hJ x1 y1 o1 o2 ty a1 a2 a3 a4 a5 g hV hW; lia))]
    exact ⟨⟨by (clear h hB h1 e07 hi e14 q1 q2 q3 q4 q5 hJ x1 y1 o1 o2 ty a1 a2 a3 a4 a5 g hV hW; lia), .inl rfl⟩, x1 V Qr Qt hV hW g⟩
  · rw [w32_id (x := sB k + 22) (by (clear h ht n12 h1 e07 hi e14 q1 q2 q3 q4 q5 hJ x1 y1 o1 o2 ty a1 a2 a3 a4 a5 g hV hW; lia)) (by (clear h ht h1 e07 hi e14 q1 q2 q3 q4 q5 hJ x1 y1 o1 o2 ty a1 a2 a3 a4 a5 g hV hW; lia)), w32_id (x := sB k + 22 + t) (by omega) (by omega)]
    exact ⟨by omega, y1 V Qr Qt hV hW g⟩
  · obtain ⟨r1, r2, r3, r4, r5⟩ := h1
    have xr : ∀ r : Nat, r ≠ 14 → r ≠ 15 → up_ (wr_ (up_ M 16 (3 * k + t) 0) 15 f') 14 k m' r = up_ M 16 (3 * k + t) 0 r := fun r c1 c2 => by rw [up_ne c1, wr_ne c2]
    have qr : ∀ r : Nat, r ≠ 239 → wr_ (up_ N 239 (sB k + 22 + t) (-1)) 239 g' r = up_ N 239 (sB k + 22 + t) (-1) r := fun r c => wr_ne c
    refine ⟨RI_k r1 (by rw [e07]; exact hk) (by rw [xr 0 (by decide) (by decide)]; exact ⟨rfl, rfl⟩) (fun q hq i hi => ?_) (fun i _ => by rw [xr 13 (by decide) (by decide)]) (fun i hi => by rw [up_ne (by decide), wr_same]; exact o1 i hi) (fun i _ => by rw [xr 16 (by decide) (by decide), xr 17 (by decide) (by decide)]; exact ⟨rfl, rfl⟩) (fun i hi => by rw [wr_same]; exact o2 i (by (clear h hk ht n12 e07 e14 q1 q2 q3 q4 q5 hJ x1 y1 o1 o2 ty a1 a2 a3 a4 a5 r1 r2 r3 r4 r5 xr qr; lia))) (by rw [qr 6 (by decide)]) (fun q hq => qr q (fun e => by rw [e] at hq; revert hq; decide)) ?_, RRt_k r2 (xr 21 (by decide) (by decide)) (xr 22 (by decide) (by decide)) (fun i hi => by rw [wr_same]; exact o2 i (by (clear h ht e07 e14 q1 q2 q3 q4 q5 hJ x1 y1 o1 o2 ty a1 a2 a3 a4 a5 r1 r2 r3 r4 r5 xr qr; lia))) (by rw [qr 6 (by decide)]), RSC_c r3 (fun i _ => by rw [xr 0 (by decide) (by decide)]) (fun i _ => by rw [qr 6 (by decide)]), ROU_c r4 (fun i _ => by rw [xr 0 (by decide) (by decide)]) (xr 24 (by decide) (by decide)) (fun i _ => by rw [qr 6 (by decide)]) (qr 241 (by decide)), REV_c r5 (fun i _ => by rw [xr 0 (by decide) (by decide)]) (xr 23 (by decide) (by decide)) (fun i _ => by rw [qr 6 (by decide)]) (qr 240 (by decide))⟩
    · by_cases c : q = 14
      · rw [c, upo hi, wr_ne (by decide)]
      · rw [xr q c (fun e => by rw [e] at hq; revert hq; decide)]
    · obtain ⟨b1, b2, b3, b4, b5⟩ := hi
      have gg : ∀ j, 0 ≤ j → j < 25 → wr_ (up_ N 239 (sB k + 22 + t) (-1)) 239 g' 239 (sB k + j) = up_ N 239 (sB k + 22 + t) (-1) 239 (sB k + j) := fun j j0 j1 => by rw [wr_same]; exact o2 _ (by (clear h hk h46 ht hB n12 e07 e14 q1 q2 q3 q4 q5 hJ x1 y1 o1 o2 ty a1 a2 a3 a4 a5 r1 r2 r3 r4 r5 xr qr b1 b2 b3 b4 b5; omega))
      unfold IN
      have g0 := gg 0 (by decide) (by decide)
      rw [Int.add_zero] at g0
      rw [xr 10 (by decide) (by decide), xr 11 (by decide) (by decide), xr 12 (by decide) (by decide), xr 18 (by decide) (by decide), xr 19 (by decide) (by decide), xr 20 (by decide) (by decide), xr 0 (by decide) (by decide), xr 13 (by decide) (by decide), xr 16 (by decide) (by decide), xr 17 (by decide) (by decide), qr 6 (by decide), qr 174 (by decide), qr 172 (by decide), qr 173 (by decide), g0, gg 1 (by decide) (by decide), gg 2 (by decide) (by decide), gg 3 (by decide) (by decide), gg 4 (by decide) (by decide), gg 5 (by decide) (by decide), up_at]
      refine ⟨b1, b2, ⟨fun i i0 i1 => ?_, fun i i0 i1 i2 => ?_⟩, fun t9 t0 t1 => ?_, ⟨by (clear h hk h46 ht hB n12 e07 e14 q1 q2 q3 q4 q5 hJ x1 y1 o1 o2 ty a2 a3 a5 r1 r2 r3 r4 r5 xr qr b1 b2 b3 b4 b5 gg g0; omega), by (clear h hk h46 ht hB n12 e07 e14 q4 q5 hJ x1 y1 o1 o2 ty a2 a3 a5 r1 r2 r3 r4 r5 xr qr b1 b2 b3 b4 gg g0; omega), ?_⟩, fun i i0 i1 => ?_, fun i i0 i1 => ?_⟩
      · rw [Int.add_assoc (sB k) 6 i, gg _ (by (clear h hk h46 ht hB n12 e07 e14 q1 q2 q3 q4 q5 hJ x1 y1 o1 o2 ty a1 a2 a3 a4 a5 r1 r2 r3 r4 r5 xr qr b1 b2 b3 b4 b5 gg g0; lia)) (by (clear h hk h46 ht hB n12 e07 e14 q1 q2 q3 q4 q5 hJ x1 y1 o1 o2 ty a1 a2 a3 a4 a5 r1 r2 r3 r4 r5 xr qr b1 b2 b3 b4 b5 gg g0; lia)), ← Int.add_assoc (sB k) 6 i]; exact b3.1 i i0 i1
      · rw [Int.add_assoc (sB k) 6 i, gg _ (by omega) (by omega), ← Int.add_assoc (sB k) 6 i]; exact b3.2 i i0 i1 i2
      · rw [Int.add_assoc (sB k) 22 t9, gg _ (by (clear h hk h46 ht hB n12 e07 e14 q1 q2 q3 q4 q5 hJ x1 y1 o1 o2 ty a1 a2 a3 a4 a5 r1 r2 r3 r4 r5 xr qr b1 b2 b3 b4 b5 gg g0; lia)) (by (clear h hk h46 ht hB n12 e07 e14 q1 q2 q3 q4 q5 hJ x1 y1 o1 o2 ty a1 a2 a3 a4 a5 r1 r2 r3 r4 r5 xr qr b1 b2 b3 b4 b5 gg g0; omega)), ← Int.add_assoc (sB k) 22 t9]; exact b4 t9 t0 t1
      · rw [wr_same, a4]; (clear h hk h46 ht hB n12 e07 e14 q1 q2 q3 q4 q5 hJ x1 y1 o1 o2 ty a1 a2 a3 a4 a5 r1 r2 r3 r4 r5 xr qr b1 b2 b3 b4 b5 gg g0; lia)
      · rw [up_ne (by decide), wr_same, wr_same]; exact a2 i i0 i1
      · rw [wr_same]; exact a5 i (by (clear h hk h46 ht hB n12 e07 e14 q1 q2 q3 q4 q5 hJ x1 y1 o1 o2 ty a1 a2 a3 a5 r1 r2 r3 r4 r5 xr qr b1 b2 b3 b4 b5 gg g0 i1; lia)) i1
  · simp only [List.mem_cons, List.not_mem_nil, or_false, not_or] at hr
    rw [up_ne hr.1, wr_ne hr.2.1, up_ne hr.2.2]
  · rw [wr_ne hr, up_ne hr]
  · rw [up_ne (by decide), wr_ne (by decide)]
  · rw [wr_same]; exact o2 j hj
end UNa
end T351_un
section T352_fa
/-! the run: an act fails; a cell gets a value -/
def errX (M : mm_) : mm_ := if M 0 25 = 0 then up_ (up_ (up_ (up_ M 0 38 (w32 (M 0 38 + 1))) 0 28 (w32 (M 0 28 + 1))) 0 29 (M 0 49)) 0 30 (M 0 50) else up_ M 0 38 (w32 (M 0 38 + 1))
def errQ (N : mm_) (e p : Int) : mm_ := if N 6 127 = 0 then up_ (up_ (up_ (up_ N 6 139 (w32 (N 6 139 + 1))) 6 133 (w32 (N 6 133 + 1))) 6 134 e) 6 135 p else up_ N 6 139 (w32 (N 6 139 + 1))
/-- what a transition needs -/
def DST [Inhabited fz_] (z n bp : Int) (M N : mm_) (k : Int) : Prop := RU z M N ∧ PLr M N ∧ TYA N ∧ (0 ≤ k ∧ k < M 0 7) ∧ M 0 46 = k ∧ (M 0 47 = n ∧ 0 ≤ n ∧ n ≤ 200) ∧ M 0 45 = 0 ∧ M 0 8 + (200 - n) ≤ bp
section FAa
variable {z : Int} {M N M' N' M1 N1 : mm_} {k t e p s x2 i v n bp T u c c1 c2 : Int}
theorem errX_r [Inhabited fz_] {r : Nat} (h : r ≠ 0) : errX M r = M r := by unfold errX; split; rw [up_ne h, up_ne h, up_ne h, up_ne h]; rw [up_ne h]
theorem errX_0 [Inhabited fz_] (h : i ∉ [28, 29, 30, 38]) : errX M 0 i = M 0 i := by
  simp only [List.mem_cons, List.not_mem_nil, or_false, not_or] at h
  unfold errX; split
  · rw [upo h.2.2.1, upo h.2.1, upo h.1, upo h.2.2.2]
  · rw [upo h.2.2.2]
theorem errQ_r [Inhabited fz_] {r : Nat} (h : r ≠ 6) : errQ N e p r = N r := by unfold errQ; split; rw [up_ne h, up_ne h, up_ne h, up_ne h]; rw [up_ne h]
theorem errQ_6 [Inhabited fz_] (h : i ∉ [133, 134, 135, 139]) : errQ N e p 6 i = N 6 i := by
  simp only [List.mem_cons, List.not_mem_nil, or_false, not_or] at h
  unfold errQ; split
  · rw [upo h.2.2.1, upo h.2.1, upo h.1, upo h.2.2.2]
  · rw [upo h.2.2.2]
theorem XRF_err [Inhabited fz_] : XRF M (errX M) := ⟨fun r hr => errX_r (fun e => hr (by rw [e]; decide)), fun i hi => errX_0 (fun e => hi (by revert e; simp only [xfL, List.mem_cons, List.not_mem_nil, or_false]; (clear hi; lia)))⟩
theorem QRF_err [Inhabited fz_] : QRF N (errQ N e p) := ⟨fun r hr => errQ_r (fun e => hr (by rw [e]; decide)), fun i hi => errQ_6 (fun e => hi (by revert e; simp only [qfL, List.mem_cons, List.not_mem_nil, or_false]; (clear hi; lia)))⟩
theorem RU_err [Inhabited fz_] (h : RU z M N) (he : M 0 49 = e) (hp : M 0 50 = p) : RU z (errX M) (errQ N e p) := by
  obtain ⟨h1, h2, h3, h4, h5⟩ := h
  have x : ∀ r : Nat, r ≠ 0 → errX M r = M r := fun r => errX_r
  have q : ∀ r : Nat, r ≠ 6 → errQ N e p r = N r := fun r => errQ_r
  refine ⟨RI_c h1 ⟨errX_0 (by decide), errX_0 (by decide)⟩ (fun r hr => x r (fun c => by rw [c] at hr; revert hr; decide)) (q 239 (by decide)) (errQ_6 (by decide)) (fun r hr => q r (fun c => by rw [c] at hr; revert hr; decide)), RRt_c h2 (x 21 (by decide)) (x 22 (by decide)) (q 239 (by decide)) (errQ_6 (by decide)), ?_, ROU_c h4 (fun i hi => errX_0 (fun c => by revert hi c; simp only [List.mem_cons, List.not_mem_nil, or_false]; (clear he hp h1 h2 h3 h4 h5 x q; lia))) (x 24 (by decide)) (fun i hi => errQ_6 (fun c => by revert hi c; simp only [List.mem_cons, List.not_mem_nil, or_false]; (clear he hp h1 h2 h3 h4 h5 x q; lia))) (q 241 (by decide)), REV_c h5 (fun i hi => errX_0 (fun c => by revert hi c; simp only [List.mem_cons, List.not_mem_nil, or_false]; (clear he hp h1 h2 h3 h4 h5 x q; lia))) (x 23 (by decide)) (fun i hi => errQ_6 (fun c => by revert hi c; simp only [List.mem_cons, List.not_mem_nil, or_false]; (clear he hp h1 h2 h3 h4 h5 x q; lia))) (q 240 (by decide))⟩
  obtain ⟨⟨z1, z2, z3⟩, n1, n2, ⟨c1, c2, c3, c4, c5, c6⟩, d12⟩ := h3
  unfold RSC
  rw [errX_0 (i := 25) (by decide), errX_0 (i := 9) (by decide), errX_0 (i := 10) (by decide), errX_0 (i := 26) (by decide), errX_0 (i := 27) (by decide), errX_0 (i := 31) (by decide), errX_0 (i := 37) (by decide), errQ_6 (i := 127) (by decide), errQ_6 (i := 128) (by decide), errQ_6 (i := 129) (by decide), errQ_6 (i := 131) (by decide), errQ_6 (i := 132) (by decide), errQ_6 (i := 136) (by decide), errQ_6 (i := 138) (by decide)]
  refine ⟨⟨z1, z2, z3⟩, n1, n2, ⟨c1, c2, ?_, ?_, ?_, c6⟩, fun hz => ⟨(d12 hz).1, ?_⟩⟩
  · unfold errX errQ
    by_cases c : M 0 25 = 0
    · rw [if_pos c, if_pos (by (clear he hp h1 h2 h4 h5 x q z3 n1 n2 d12 c1 c2 c3 c4 c5 c6; lia)), upo (by decide), upo (by decide), up_at, upo (by decide), upo (by decide), up_at, c3]
    · rw [if_neg c, if_neg (by (clear he hp h1 h2 h4 h5 x q z3 n1 n2 d12 c1 c2 c3 c4 c5 c6; lia)), upo (by decide), upo (by decide)]; exact c3
  · unfold errX errQ
    by_cases c : M 0 25 = 0
    · rw [if_pos c, if_pos (by omega), upo (by decide), up_at, upo (by decide), up_at, he]
    · rw [if_neg c, if_neg (by omega), upo (by decide), upo (by decide)]; exact c4
  · unfold errX errQ
    by_cases c : M 0 25 = 0
    · rw [if_pos c, if_pos (by omega), up_at, up_at, hp]
    · rw [if_neg c, if_neg (by omega), upo (by decide), upo (by decide)]; exact c5
  · unfold errX errQ
    by_cases c : M 0 25 = 0
    · rw [if_pos c, if_pos (by (clear he hp h1 h2 h4 h5 x q z3 n1 n2 d12 c1 c2 c3 c4 c5 c6; lia)), upo (by decide), upo (by decide), upo (by decide), up_at, upo (by decide), upo (by decide), upo (by decide), up_at, (d12 hz).2]
    · rw [if_neg c, if_neg (by (clear he hp h1 h2 h4 h5 x q z1 z3 n1 n2 d12 c1 c2 c3 c4 c5 c6 c; lia)), up_at, up_at, (d12 hz).2]
theorem stopX_8 [Inhabited fz_] : stopX M k 0 8 = M 0 8 := by
  unfold stopX stpX
  have l := (ls_f (k := k) (p := M 10 k) (M 14 k).toNat 0 (evX M 6 (M 10 k) (-1) 0) M).1
  have e : ∀ (A : mm_) (j : Int), sfX A k j 0 = A 0 := fun A j => by unfold sfX; rw [if_neg (by decide), if_neg (by decide), if_neg (by decide), if_neg (by decide), if_neg (by decide)]
  rw [e, upo (by decide), l.2 8 (by decide), EvX_ev.2 8 (by decide) (by decide)]
/-- an act fails -/
theorem j_fail [Inhabited fz_] (h : RU z M N) (hA : TYA N) (hk : 0 ≤ s ∧ s < M 0 7) (he : M 0 49 = e) (hp : M 0 50 = p) : ∃ M' N', (∀ (V : vv_) (Qr : qr_) (Qt : qt_), Cl_ wd0 (Tr_ wd0 pg0 7) V Qr Qt m_23 → Wk_ V → Qr [] M' → V 38 [rr 0, ii s, ii x2, none] [.inr (.inr 7)] M) ∧ Ex_ 4 347 [.inr (.inr 6), .inl s, .inl e, .inl p] N [] N' ∧ RU z M' N' ∧ TYA N' ∧ (XRF M M' ∧ QRF N N') ∧ M' 0 8 = M 0 8 := by
  have n12 := h.1.1
  have hB : sB s = 2 + 56 * s := rfl
  have zz := h.2.2.1.1
  have h1 := RU_err h he hp
  have e10 : errX M 10 = M 10 := errX_r (by decide)
  have ep : N 239 (sB s) = M 10 s := (h.1.2.2.1 s hk.1 hk.2).1.1.symm
  have eq : errQ N e p 239 = N 239 := errQ_r (by decide)
  have h2 := RU_ev (k := 7) (a := M 10 s) (s := -1) (b := 0) h1
  have e7 : evX (errX M) 7 (M 10 s) (-1) 0 0 7 = M 0 7 := by rw [EvX_ev.2 7 (by decide) (by decide), errX_0 (by decide)]
  have hk2 : 0 ≤ s ∧ s < evX (errX M) 7 (M 10 s) (-1) 0 0 7 := by rw [e7]; exact hk
  have b5 := RU_b5 h1
  have b3 := RU_b324 h1
  refine ⟨stopX (evX (errX M) 7 (M 10 s) (-1) 0) s, stopQ (evQ (errQ N e p) 7 (M 10 s) (-1) 0) s, fun V Qr Qt hV hW g => b_23_38_7 (Tr_mono _) hV hW _ _ _ (fun _ => ?_), fun Qr Qt g => t_347 fun V hV hW => b_347_0 (Tr_mono _) hV hW _ _ _ _ (fun _ => ?_), RU_stp h2 hk2, TYA_stp h2 (TYA_ev (TYA_c hA (TYT_Q QRF_err) eq)) hk2, ⟨XRF_tr (XRF_tr XRF_err XRF_ev) XRF_stp, QRF_tr (QRF_tr QRF_err QRF_ev) QRF_stp⟩, by rw [stopX_8, EvX_ev.2 8 (by decide) (by decide), errX_0 (by decide)]⟩
  · have x5 : Tr_ wd0 pg0 7 5 [.inr (.inr 0), .inl 7, .inl (M 10 s), .inl (-1), .inl 0] (errX M) (rv_ fun M3 => Tr_ wd0 pg0 7 32 [.inr (.inr 0), .inl s] M3 (rv_ fun M4 => Qr [] M4) Qt) Qt := Ex_le (d := 1) (by decide) (x_5 b5.1 b5.2.1 b5.2.2) _ _ (rv_i (Ex_le (d := 3) (by decide) (x_32 h2 hk2) _ _ (rv_i g)))
    unfold errX at x5
    by_cases c : M 0 25 = 0
    · rw [if_pos c] at x5 ⊢; exact ⟨by omega, x5⟩
    · rw [if_neg c] at x5 ⊢; exact ⟨by omega, x5⟩
  · have q5 : Tr_ wd0 pg0 3 323 [.inl s] (errQ N e p) (ri_ fun v2 M4 => (0 ≤ v2 ∧ v2 < 1104) ∧ Tr_ wd0 pg0 3 324 [.inr (.inr 6), .inl 7, .inl (M4 239 v2), .inl (-1), .inl 0] M4 (rv_ fun M5 => Tr_ wd0 pg0 3 348 [.inr (.inr 6), .inl s] M5 (rv_ fun M6 => Qr [] M6) Qt) Qt) Qt := by
      refine Ex_le (d := 1) (by decide) (q_323 (by (clear h hA he hp hB zz h1 e10 ep eq h2 hk2 b5 b3 g hV hW; lia))) _ _ (ri_i ⟨by (clear h hA he hp zz h1 e10 ep eq h2 hk2 b5 b3 g hV hW; lia), ?_⟩)
      rw [eq, ep]
      exact Ex_le (d := 1) (by decide) (q_324 b3.1 b3.2.1 b3.2.2) _ _ (rv_i (q_348 h2 hk2 _ _ (rv_i g)))
    unfold errQ at q5
    by_cases c : N 6 127 = 0
    · rw [if_pos c] at q5 ⊢; exact q5
    · rw [if_neg c] at q5 ⊢; exact q5
/-- a cell gets a value -/
theorem RU_as [Inhabited fz_] (h : RU z M N) (hk : 0 ≤ k ∧ k < M 0 7) (hi : 0 ≤ i ∧ i < 16) (h172 : i < N 172 (M 11 k)) : RU z (up_ M 13 (16 * k + i) v) (up_ N 239 (sB k + 6 + i) v) := by
  obtain ⟨r1, r2, r3, r4, r5⟩ := h
  have n12 := r1.1
  have hB : sB k = 2 + 56 * k := rfl
  have xr : ∀ r : Nat, r ≠ 13 → up_ M 13 (16 * k + i) v r = M r := fun r c => up_ne c
  have qr : ∀ r : Nat, r ≠ 239 → up_ N 239 (sB k + 6 + i) v r = N r := fun r c => up_ne c
  refine ⟨RI_k r1 hk (by rw [xr 0 (by decide)]; exact ⟨rfl, rfl⟩) (fun q hq i hi => by rw [xr q (fun e => by rw [e] at hq; revert hq; decide)]) (fun j hj => upo (by omega)) (fun j _ => by rw [xr 15 (by decide)]) (fun j _ => by rw [xr 16 (by decide), xr 17 (by decide)]; exact ⟨rfl, rfl⟩) (fun j hj => upo (by (clear hk h172 r1 r2 r3 r4 r5 n12 xr qr; omega))) (by rw [qr 6 (by decide)]) (fun q hq => qr q (fun e => by rw [e] at hq; revert hq; decide)) ?_, RRt_k r2 (xr 21 (by decide)) (xr 22 (by decide)) (fun j hj => upo (by omega)) (by rw [qr 6 (by decide)]), RSC_c r3 (fun i _ => by rw [xr 0 (by decide)]) (fun i _ => by rw [qr 6 (by decide)]), ROU_c r4 (fun i _ => by rw [xr 0 (by decide)]) (xr 24 (by decide)) (fun i _ => by rw [qr 6 (by decide)]) (qr 241 (by decide)), REV_c r5 (fun i _ => by rw [xr 0 (by decide)]) (xr 23 (by decide)) (fun i _ => by rw [qr 6 (by decide)]) (qr 240 (by decide))⟩
  obtain ⟨b1, b2, b3, b4, b5⟩ := r1.2.2.1 k hk.1 hk.2
  unfold IN
  rw [xr 10 (by decide), xr 11 (by decide), xr 12 (by decide), xr 18 (by decide), xr 19 (by decide), xr 20 (by decide), xr 0 (by decide), xr 14 (by decide), xr 15 (by decide), xr 16 (by decide), xr 17 (by decide), qr 6 (by decide), qr 174 (by decide), qr 172 (by decide), qr 173 (by decide), upo (i := sB k + 6 + i) (j := sB k) (by (clear hk h172 r1 r2 r3 r4 r5 n12 hB xr qr b1 b2 b3 b4 b5; omega)), upo (i := sB k + 6 + i) (j := sB k + 1) (by (clear hk h172 r1 r2 r3 r4 r5 n12 hB xr qr b1 b2 b3 b4 b5; omega)), upo (i := sB k + 6 + i) (j := sB k + 2) (by (clear hk h172 r1 r2 r3 r4 r5 n12 hB xr qr b1 b2 b3 b4 b5; omega)), upo (i := sB k + 6 + i) (j := sB k + 3) (by (clear hk h172 r1 r2 r3 r4 r5 n12 hB xr qr b1 b2 b3 b4 b5; omega)), upo (i := sB k + 6 + i) (j := sB k + 4) (by (clear hk h172 r1 r2 r3 r4 r5 n12 hB xr qr b1 b2 b3 b4 b5; omega)), upo (i := sB k + 6 + i) (j := sB k + 5) (by (clear hk h172 r1 r2 r3 r4 r5 n12 hB xr qr b1 b2 b3 b4 b5; omega)), upo (i := sB k + 6 + i) (j := sB k + 25) (by (clear hk h172 r1 r2 r3 r4 r5 n12 hB xr qr b1 b2 b3 b4 b5; lia))]
  refine ⟨b1, b2, ⟨fun j j0 j1 => ?_, fun j j0 j1 j2 => ?_⟩, fun t t0 t1 => ?_, b5.1, fun j j0 j1 => ?_, fun j j0 j1 => ?_⟩
  · by_cases c : j = i
    · rw [c, up_at, up_at]
    · rw [upo (by (clear hk hi h172 r1 r2 r3 r4 r5 n12 hB xr qr b1 b2 b3 b4 b5 j0 j1; lia)), upo (by (clear hk hi h172 r1 r2 r3 r4 r5 n12 hB xr qr b1 b2 b3 b4 b5 j0 j1; lia))]; exact b3.1 j j0 j1
  · rw [upo (by (clear hk hi r1 r2 r3 r4 r5 n12 hB xr qr b1 b2 b3 b4 b5 j1 j2; omega))]; exact b3.2 j j0 j1 j2
  · rw [upo (by (clear hk h172 r1 r2 r3 r4 r5 n12 hB xr qr b1 b2 b3 b4 b5; omega))]; exact b4 t t0 t1
  · rw [upo (by omega)]; exact b5.2.1 j j0 j1
  · rw [upo (by (clear hk h172 r1 r2 r3 r4 r5 n12 hB xr qr b1 b2 b3 b4 j1; omega))]; exact b5.2.2 j (by omega) j1
theorem TYA_as [Inhabited fz_] (h : RU z M N) (hP : PLr M N) (hA : TYA N) (hk : 0 ≤ k ∧ k < M 0 7) (hT : M 11 k = T) (hu : 0 ≤ u ∧ u < N 171 T) (hi : N 184 (8 * T + u) ≤ i ∧ i < N 184 (8 * T + u) + (if 1 < N 183 (8 * T + u) then N 183 (8 * T + u) else 1)) (hv : N 182 (8 * T + u) = 2 → BV v) (hr : R32 v) : TYA (up_ N 239 (sB k + 6 + i) v) ∧ (0 ≤ i ∧ i < 16) ∧ i < N 172 T := by
  have n12 := h.1.1
  have hB : sB k = 2 + 56 * k := rfl
  have hin := h.1.2.2.1 k hk.1 hk.2
  have e1 : N 239 (sB k + 1) = T := by rw [← hT]; exact hin.1.2.1.symm
  have pt := PT_of hP hin.2.1.2.1
  rw [hT] at pt
  unfold PTY PPC at pt
  rw [tbN_r (q := 171) (by decide) (by decide), tbN_r (q := 172) (by decide) (by decide), tbN_r (q := 183) (by decide) (by decide), tbN_r (q := 184) (by decide) (by decide)] at pt
  have l16 := pt.2.2.1.2.2.1.2.2
  have qu := (pt.2.2.2.1 u hu.1 hu.2).2.2
  have dis := pt.2.1.2.2.2.2.2
  have g := hA.1 k hk.1 (by (clear h hP hA hT hu hi hv hr hB hin e1 pt l16 qu dis; omega)) (by (clear h hP hA hT hu hi hv hr hB hin e1 pt l16 qu dis; omega))
  have ht : TYT N (up_ N 239 (sB k + 6 + i) v) := ⟨fun r hr => up_ne (fun e => by rw [e] at hr; revert hr; decide), by rw [up_ne (by decide)], by rw [up_ne (by decide)]⟩
  refine ⟨TYA_k (k := k) hA ht (by (clear h hP hA hT hu hi hv hr hB hin e1 pt l16 qu dis g ht; omega)) (fun j hj => upo (by omega)) ⟨?_, fun q q0 q1 q2 => ?_⟩ (fun j _ _ => by rw [ua_, if_pos rfl]; split; exact hr; exact hA.2.2 j), by omega, by (clear h hP hA hk hT hu hv hr n12 hB hin e1 pt l16 dis g ht; omega)⟩
  · have e1' : up_ N 239 (sB k + 6 + i) v 239 (sB k + 1) = T := by rw [upo (by (clear h hP hA hk hT hu hv hr n12 hB hin e1 pt l16 dis g ht; omega))]; exact e1
    have main : ∀ w, 0 ≤ w → w < N 171 T → N 182 (8 * T + w) = 2 → ∀ j, 0 ≤ j → j < (if 1 < N 183 (8 * T + w) then N 183 (8 * T + w) else 1) → 0 ≤ N 184 (8 * T + w) + j → N 184 (8 * T + w) + j < 16 → BV (up_ N 239 (sB k + 6 + i) v 239 (sB k + (6 + (N 184 (8 * T + w) + j)))) := fun w w0 w1 w2 j j0 j1 j2 j3 => by
      by_cases c : N 184 (8 * T + w) + j = i
      · have : w = u := by
          rcases Int.lt_trichotomy w u with l | l | l
          · have := dis w u w0 l hu.2; (clear h hP hA hk hT hu hv hr n12 hB hin e1 pt l16 qu dis g ht e1' w0 w1 w2 j0 j2 j3 l; omega)
          · exact l
          · have := dis u w hu.1 l w1; (clear h hP hA hk hT hu hv hr n12 hB hin e1 pt l16 qu dis g ht e1' w0 w1 w2 j1 j2 j3 l; omega)
        rw [this] at w2
        rw [c, ← Int.add_assoc, up_at]; exact hv w2
      · rw [upo (by (clear h hP hA hk hT hu hi hv hr n12 hB hin e1 pt l16 qu dis g ht e1' w0 w1 w2 j0 j1 j2 j3; lia))]; exact TIN_1 g e1 w w0 w1 w2 j j0 j1 j2 j3
    have e9 : ∀ r : Nat, r ∈ [171, 182, 183, 184] → up_ N 239 (sB k + 6 + i) v r = N r := fun r hr => up_ne (fun e => by rw [e] at hr; revert hr; decide)
    have : ∀ T', up_ N 239 (sB k + 6 + i) v 239 (sB k + 1) = T' → (∀ u, 0 ≤ u → u < up_ N 239 (sB k + 6 + i) v 171 T' → up_ N 239 (sB k + 6 + i) v 182 (8 * T' + u) = 2 → ∀ j, 0 ≤ j → j < (if 1 < up_ N 239 (sB k + 6 + i) v 183 (8 * T' + u) then up_ N 239 (sB k + 6 + i) v 183 (8 * T' + u) else 1) → 0 ≤ up_ N 239 (sB k + 6 + i) v 184 (8 * T' + u) + j → up_ N 239 (sB k + 6 + i) v 184 (8 * T' + u) + j < 16 → BV (up_ N 239 (sB k + 6 + i) v 239 (sB k + (6 + (up_ N 239 (sB k + 6 + i) v 184 (8 * T' + u) + j))))) := fun T' hT' => by
      rw [e1'] at hT'
      subst hT'
      rw [e9 171 (by decide), e9 182 (by decide), e9 183 (by decide), e9 184 (by decide)]
      exact main
    exact this _ rfl
  · have q2 : q < up_ N 239 (sB k + 6 + i) v 239 (sB k + 25) := q2
    rw [upo (by (clear h hP hA hk hT hu hv hr n12 hB hin e1 l16 dis g ht q0 q1 q2; omega))] at q2
    show SGV _ (up_ N 239 (sB k + 6 + i) v 239 (sB k + (26 + 5 * q))) _
    rw [upo (by omega)]
    exact SGV_c (g.2 q q0 q1 q2) ht (fun v v0 v1 => upo (by (clear h hP hA hk hT hu hv hr n12 hB hin e1 l16 dis g ht q2; omega)))
/-- X's loop of acts: one round -/
theorem xw_go [Inhabited fz_] {x2 : Int} (hc : c ≠ -1) (hw : Ex_ 3 15 [.inr (.inr 0), .inl c] M [.inl c1] M1) (ha : Ex_ 7 24 [.inr (.inr 0), .inl c1] M1 [.inl c2] M') : RC 7 m_23 17 [rr 0, ii s, ii x2, ii c] M 17 [rr 0, ii s, ii x2, ii c2] M' := fun V Qr Qt hV hW g => b_23_17 (Tr_mono _) hV hW _ _ _ _ (by
  rw [if_neg hc]
  exact Ex_le (d := 3) (by decide) hw _ _ (ri_i (ha _ _ (ri_i g))))
def XH (s x2 c : Int) (M M' : mm_) : Prop := ∀ (V : vv_) (Qr : qr_) (Qt : qt_), Cl_ wd0 (Tr_ wd0 pg0 7) V Qr Qt m_23 → Wk_ V → V 38 [rr 0, ii s, ii x2, none] [.inr (.inr 7)] M' → V 17 [rr 0, ii s, ii x2, ii c] [] M
theorem Et_le [Inhabited fz_] {d d' n : Nat} {args : List pv_} (h : d ≤ d') (hx : Et_ d n args M M') : Et_ d' n args M M' := fun Qr Qt hq => Tr_le h (hx Qr Qt hq)
theorem xw_e1 [Inhabited fz_] (hc : c ≠ -1) (hw : Et_ 3 15 [.inr (.inr 0), .inl c] M M') : XH s x2 c M M' := fun V Qr Qt hV hW g => b_23_17 (Tr_mono _) hV hW _ _ _ _ (by
  rw [if_neg hc]
  exact Et_le (by decide) hw _ _ ⟨.inl rfl, g⟩)
theorem xw_e2 [Inhabited fz_] (hc : c ≠ -1) (hw : Ex_ 3 15 [.inr (.inr 0), .inl c] M [.inl c1] M1) (ha : Et_ 7 24 [.inr (.inr 0), .inl c1] M1 M') : XH s x2 c M M' := fun V Qr Qt hV hW g => b_23_17 (Tr_mono _) hV hW _ _ _ _ (by
  rw [if_neg hc]
  exact Ex_le (d := 3) (by decide) hw _ _ (ri_i (ha _ _ ⟨.inl rfl, g⟩)))
/-- no e ahead of an act -/
theorem w_no [Inhabited fz_] (hc : 0 ≤ c ∧ c < 12000) (h : 25 ≤ M 109 c) : Ex_ 3 15 [.inr (.inr 0), .inl c] M [.inl c] M := fun Qr Qt g => x_15s fun V hV hW => x_15e hc h hV hW g
end FAa
end T352_fa
section T353_bo
/-! the run: acts, what is said of them -/
/-- within an act: p values wait -/
def WST [Inhabited fz_] (z p : Int) (M N : mm_) (s : Int) : Prop := RU z M N ∧ PLr M N ∧ TYA N ∧ (0 ≤ s ∧ s < M 0 7) ∧ M 0 46 = s ∧ M 0 45 = p
/-- what an act leaves of X's fields -/
def KP8 (M M' : mm_) : Prop := M' 0 47 = M 0 47 ∧ M' 0 50 = M 0 50
section BOa
variable {z : Int} {M N M' N' M1 N1 : mm_} {A : Int → Int} {k t e p s x2 i v n bp T u c c1 c2 f fe op : Int}
theorem exX_s [Inhabited fz_] (h : M 0 45 = n) : exX M (M 26) n = M := by rw [exX_i, ← h]; funext r i; rw [ua_]; split; rename_i c; rw [c]; split; rename_i c; rw [c]; rfl; rfl
theorem ev_w [Inhabited fz_] (hW : WST z p M N s) (hp : 0 ≤ p ∧ p ≤ 6) (hT : M 11 s = T) (hE : EXP (swc M) (tbN N) T c c1 f fe t) (hc1 : c1 ≤ 11900) (hfe : fe ≤ 2900) (h25 : 25 ≤ M 109 c1) :
    (∃ A' v N', Ex_ 3 15 [.inr (.inr 0), .inl c] M [.inl c1] (exX M A' (p + 1)) ∧ Ex_ 4 339 [.inr (.inr 6), .inl s, .inl f] N [.inl v] N' ∧ N' 6 149 = 0 ∧ EFQ N N' ∧ A' p = v ∧ ((t = 2 → BV v) ∧ R32 v) ∧ ∀ j, j < p → A' j = M 26 j)
    ∨ (∃ e M' N' v, (e = 1 ∨ e = 2) ∧ Et_ 3 15 [.inr (.inr 0), .inl c] M M' ∧ EFX M M' ∧ KP8 M M' ∧ M' 0 49 = e ∧ Ex_ 4 339 [.inr (.inr 6), .inl s, .inl f] N [.inl v] N' ∧ N' 6 149 = e ∧ EFQ N N') := by
  obtain ⟨h1, h2, h3, h4, h5, h6⟩ := hW
  have ev := EVC_of h1 h2 h3 h4 h5
  rw [hT] at ev
  obtain ⟨l, _, _, l3, _, _, l6, _⟩ := id hE
  rcases ev_e (p := p) (A := M 26) ev hE hp hc1 hfe with ⟨A', B', v, x1, q1, e1, bv, lo⟩ | ⟨e, A', n', B', m', v, he, x1, q1⟩
  · refine .inl ⟨A', v, exQ N B' 1 0, fun Qr Qt g => x_15s fun V hV hW => ?_, q1, exQ_149, EFQ_ex, e1, bv, lo⟩
    have := x1 c V Qr Qt hV hW (x_15e (by (clear hp hT hE hfe h25 h1 h2 h3 h4 h5 h6 ev x1 q1 e1 bv lo g hV hW; omega)) (by rw [exX_r (r := 109) (by decide) (by decide)]; exact h25) hV hW g)
    rw [exX_s h6] at this
    exact this
  · refine .inr ⟨e, up_ (exX M A' n') 0 49 e, exQ N B' m' e, v, he, fun Qr Qt g => x_15s fun V hV hW => ?_, EFX_tr EFX_ex (EFX_up (by decide)), ⟨by rw [upo (by decide), exX_0 (by decide)], by rw [upo (by decide), exX_0 (by decide)]⟩, up_at, q1, exQ_149, EFQ_ex⟩
    have := x1 c V Qr Qt hV hW g
    rw [exX_s h6] at this
    exact this
theorem WST_ef [Inhabited fz_] (hW : WST z p M N s) (hx : EFX M M') (hq : EFQ N N') (h46 : M' 0 46 = M 0 46) (h45 : M' 0 45 = v) : WST z v M' N' s := by
  obtain ⟨h1, h2, h3, h4, h5, h6⟩ := hW
  exact ⟨RU_ef h1 hx hq, PLr_c h2 (XRF_ef hx) (QRF_ef hq), TYA_ef h3 hq, by rw [hx.2 7 (by decide) (by decide) (by decide) (by decide) (by decide)]; exact h4, h46.trans h5, h45⟩
/-- a plain act: both do it, or both fail -/
def BOD [Inhabited fz_] (z T bp : Int) (M N : mm_) (s x2 op c c' : Int) : Prop :=
  (∃ M' N', RC 7 m_23 17 [rr 0, ii s, ii x2, ii c] M 17 [rr 0, ii s, ii x2, ii c'] M' ∧ Ex_ 7 350 [.inr (.inr 6), .inl s, .inl op] N [.inl 0] N' ∧ WST z 0 M' N' s ∧ M' 11 s = T ∧ (XRF M M' ∧ QRF N N') ∧ M' 0 47 = M 0 47 ∧ M' 0 8 ≤ M 0 8 + 1)
  ∨ (∃ e M' N', (1 ≤ e ∧ e ≤ 3) ∧ XH s x2 c M M' ∧ (M' 0 49 = e ∧ M' 0 50 = M 0 50) ∧ Ex_ 7 350 [.inr (.inr 6), .inl s, .inl op] N [.inl e] N' ∧ RU z M' N' ∧ TYA N' ∧ (XRF M M' ∧ QRF N N') ∧ M' 0 7 = M 0 7 ∧ M' 0 8 = M 0 8)
/-- an act, from its count on -/
def AGO [Inhabited fz_] (z T bp : Int) (M N : mm_) (s x2 y2 k c n : Int) : Prop :=
  (∃ M' N' k' c' n', RC 7 m_23 17 [rr 0, ii s, ii x2, ii c] M 17 [rr 0, ii s, ii x2, ii c'] M' ∧ RC 7 m_346 8 [rr 6, ii s, ii y2, ii k, ii n, ii 1, none, none] N 8 [rr 6, ii s, ii y2, ii k', ii n', ii 1, none, none] N' ∧ DST z n' bp M' N' s ∧ M' 11 s = T ∧ ATP (swc M') (tbN N') T k' c' ∧ (XRF M M' ∧ QRF N N') ∧ (n < n' ∨ (n' = n ∧ k < k')))
  ∨ (∃ M' N', (∀ (V : vv_) (Qr : qr_) (Qt : qt_), Cl_ wd0 (Tr_ wd0 pg0 7) V Qr Qt m_23 → Wk_ V → Qr [] M' → V 17 [rr 0, ii s, ii x2, ii c] [] M) ∧ (∀ (V : vv_) (Qr : qr_) (Qt : qt_), Cl_ wd0 (Tr_ wd0 pg0 7) V Qr Qt m_346 → Wk_ V → Qr [] N' → V 8 [rr 6, ii s, ii y2, ii k, ii n, ii 1, none, none] [] N) ∧ RU z M' N' ∧ TYA N' ∧ (XRF M M' ∧ QRF N N') ∧ M' 0 8 ≤ bp)
/-- COUNTS -/
def cntX (M : mm_) (p n : Int) : mm_ := up_ (up_ M 0 50 p) 0 47 n
theorem x_cn [Inhabited fz_] (hc : 0 ≤ c ∧ c ≤ 11900) (h30 : M 109 c = 30) (hp : M 109 (c + 1) = p) (hn : M 0 47 = n ∧ 0 ≤ n ∧ n < 200) : RC 7 m_23 17 [rr 0, ii s, ii x2, ii c] M 17 [rr 0, ii s, ii x2, ii (c + 2)] (cntX M p (n + 1)) := xw_go (by omega) (w_no (by omega) (by omega)) (fun Qr Qt g => t_24 fun V hV hW => b_24_0 (Tr_mono _) hV hW _ _ (by
  rw [h30]; simp only [if_true]
  rw [w32_id (x := c + 1) (by omega) (by omega), hp, hn.1, if_neg (by omega), w32_id (x := c + 2) (by omega) (by omega), w32_id (x := n + 1) (by omega) (by omega)]
  exact ⟨by omega, by omega, g⟩))
theorem x_cne [Inhabited fz_] (hc : 0 ≤ c ∧ c ≤ 11900) (h30 : M 109 c = 30) (hp : M 109 (c + 1) = p) (hn : M 0 47 = 200) : XH s x2 c M (up_ (up_ M 0 50 p) 0 49 4) := xw_e2 (by omega) (w_no (by omega) (by omega)) (fun Qr Qt g => t_24 fun V hV hW => b_24_0 (Tr_mono _) hV hW _ _ (by
  rw [h30]; simp only [if_true]
  rw [w32_id (x := c + 1) (by omega) (by omega), hp, hn, if_pos rfl]
  exact ⟨by omega, by omega, Ex_le (d := 1) (by decide) x_19 _ _ (rf_i (by rw [if_neg (by decide)]; exact g))⟩))
theorem EFX_cn [Inhabited fz_] : EFX M (cntX M p n) := EFX_tr (EFX_up (by decide)) (EFX_up (by decide))
theorem cntX_45 [Inhabited fz_] : cntX M p n 0 45 = M 0 45 := by unfold cntX; rw [upo (by decide), upo (by decide)]
theorem cntX_46 [Inhabited fz_] : cntX M p n 0 46 = M 0 46 := by unfold cntX; rw [upo (by decide), upo (by decide)]
/-- what an op in its run says -/
theorem AT_k [Inhabited fz_] (hA : ATP M N T k c) : ∃ (k0 k1 c0 c1 r0 r1 fe : Int) (px : Int → Int) (L : pl_), (0 ≤ k0 ∧ k1 ≤ N 6 75) ∧ (0 ≤ c0 ∧ c1 ≤ M 5 3) ∧ (0 ≤ r0 ∧ r1 ≤ N 6 90) ∧ fe ≤ N 6 104 ∧ (∀ k, k0 ≤ k → k ≤ k1 → c0 ≤ px k ∧ px k ≤ c1) ∧ (k0 ≤ k ∧ k < k1) ∧ px k = c ∧ OPX M N px L T c0 c1 r0 r1 k1 fe k ∧ L k ∧ ∀ k', L k' → ATP M N T k' (px k') := by
  obtain ⟨k0, k1, c0, c1, r0, r1, fe, px, L, a1, a2, a3, a4, a5, ⟨a6, a7⟩, a8, a9, a10⟩ := id hA
  have b := a6 k a10
  have ne : k ≠ k1 := fun e => a7 (by rw [← e]; exact a10)
  exact ⟨k0, k1, c0, c1, r0, r1, fe, px, L, a1, a2, a3, a4, a5, ⟨b.1, by (clear hA a1 a2 a3 a4 a5 a6 a7 a8 a9 a10; lia)⟩, a9, a8 k b.1 (by omega), a10, fun k' hk' => ⟨k0, k1, c0, c1, r0, r1, fe, px, L, a1, a2, a3, a4, a5, ⟨a6, a7⟩, a8, rfl, hk'⟩⟩
end BOa
end T353_bo
section T354_ap
/-! the run: a plain act whole -/
section APa
variable {z : Int} {M N M' N' M1 N1 : mm_} {k t e p s x2 y2 i v n bp T u c c' c1 c2 f fe op : Int}
theorem DST_W [Inhabited fz_] (hD : DST z n bp M N s) : WST z 0 M N s := ⟨hD.1, hD.2.1, hD.2.2.1, hD.2.2.2.1, hD.2.2.2.2.1, hD.2.2.2.2.2.2.1⟩
/-- an error ends the transition -/
theorem ac_e [Inhabited fz_] (h : RU z M' N') (hA : TYA N') (hk : 0 ≤ s ∧ s < M' 0 7) (he : M' 0 49 = e) (hp : M' 0 50 = p) (hx : XH s x2 c M M') (fr : XRF M M' ∧ QRF N N') (h8 : M' 0 8 ≤ bp)
    (hq : ∀ (V : vv_) (Qr : qr_) (Qt : qt_), Cl_ wd0 (Tr_ wd0 pg0 7) V Qr Qt m_346 → Wk_ V → Tr_ wd0 pg0 7 347 [.inr (.inr 6), .inl s, .inl e, .inl p] N' (rv_ fun M2 => Qr [] M2) Qt → V 8 [rr 6, ii s, ii y2, ii k, ii n, ii 1, none, none] [] N) : AGO z T bp M N s x2 y2 k c n := by
  obtain ⟨M2, N2, x1, q1, ru, ty, fr2, e8⟩ := j_fail (x2 := x2) h hA hk he hp
  exact .inr ⟨M2, N2, fun V Qr Qt hV hW g => hx V Qr Qt hV hW (x1 V Qr Qt hV hW g), fun V Qr Qt hV hW g => hq V Qr Qt hV hW (Ex_le (d := 4) (by decide) q1 _ _ (rv_i g)), ru, ty, ⟨XRF_tr fr.1 fr2.1, QRF_tr fr.2 fr2.2⟩, by (clear h hA hk he hp hx fr hq x1 q1 ru ty fr2; omega)⟩
/-- too many acts -/
theorem ac_m [Inhabited fz_] (hD : DST z n bp M N s) (hn : n = 200) (h30 : M 109 c = 30) (hp : M 109 (c + 1) = N 204 k) (hk : 0 ≤ k ∧ k < 1300) (hc : 0 ≤ c ∧ c ≤ 11900) (h7 : N 203 k ≠ 7) : AGO z T bp M N s x2 y2 k c n := by
  obtain ⟨d1, d2, d3, d4, d5, ⟨d6, d7, d8⟩, d9, d10⟩ := hD
  have ex : EFX M (up_ (up_ M 0 50 (N 204 k)) 0 49 4) := EFX_tr (EFX_up (by decide)) (EFX_up (by decide))
  refine ac_e (M' := up_ (up_ M 0 50 (N 204 k)) 0 49 4) (N' := N) (e := 4) (p := N 204 k) (RU_ef d1 ex EFQ_rf) d3 (by rw [upo (by decide), upo (by decide)]; exact d4) up_at (by rw [upo (by decide), up_at]) (x_cne hc h30 hp (by (clear h30 hp hk hc h7 d1 d2 d3 d4 d5 d7 d8 d9 d10 ex; lia))) ⟨XRF_ef ex, QRF_rf⟩ (by rw [upo (by decide), upo (by decide)]; (clear h30 hp hk hc h7 d1 d2 d3 d4 d5 d6 d7 d8 d9 ex; lia)) (fun V Qr Qt hV hW g => b_346_8 (Tr_mono _) hV hW _ _ _ _ _ _ ?_)
  rw [if_neg (by decide), if_neg h7, w32_id (x := n + 1) (by (clear h30 hp hk hc h7 d1 d2 d3 d4 d5 d6 d7 d8 d9 d10 ex hV hW g; lia)) (by (clear h30 hp hk hc h7 d1 d2 d3 d4 d5 d6 d7 d8 d9 d10 ex hV hW g; omega)), if_neg (by (clear h30 hp hk hc h7 d1 d2 d3 d4 d5 d6 d7 d8 d9 d10 ex hV hW g; lia))]
  exact ⟨hk, hk, g⟩
theorem DST_cn [Inhabited fz_] (hD : DST z n bp M N s) (hn : n < 200) : WST z 0 (cntX M p (n + 1)) N s ∧ cntX M p (n + 1) 0 47 = n + 1 ∧ cntX M p (n + 1) 0 50 = p ∧ cntX M p (n + 1) 0 8 = M 0 8 ∧ cntX M p (n + 1) 11 = M 11 ∧ cntX M p (n + 1) 109 = M 109 ∧ cntX M p (n + 1) 0 7 = M 0 7 := by
  refine ⟨WST_ef (DST_W hD) EFX_cn EFQ_rf cntX_46 (cntX_45.trans hD.2.2.2.2.2.2.1), ?_, ?_, ?_, ?_, ?_, ?_⟩
  · unfold cntX; rw [up_at]
  · unfold cntX; rw [upo (by decide), up_at]
  · unfold cntX; rw [upo (by decide), upo (by decide)]
  · unfold cntX; rw [up_ne (by decide), up_ne (by decide)]
  · unfold cntX; rw [up_ne (by decide), up_ne (by decide)]
  · unfold cntX; rw [upo (by decide), upo (by decide)]
theorem ac_p [Inhabited fz_] (hD : DST z n bp M N s) (h30 : M 109 c = 30) (hp : M 109 (c + 1) = N 204 k) (hk : 0 ≤ k ∧ k < 1200) (hc : 0 ≤ c ∧ c ≤ 11900) (h203 : 1 ≤ N 203 k ∧ N 203 k ≤ 5) (hnx : ATP (swc M) (tbN N) T (k + 1) c') (hb : n < 200 → BOD z T bp (cntX M (N 204 k) (n + 1)) N s x2 k (c + 2) c') : AGO z T bp M N s x2 y2 k c n := by
  have dn := hD.2.2.2.2.2.1
  by_cases hn : n = 200
  · exact ac_m hD hn h30 hp (by omega) hc (by omega)
  · have xc := x_cn (s := s) (x2 := x2) hc h30 hp ⟨dn.1, dn.2.1, by (clear hD h30 hp hk hc h203 hnx hb; omega)⟩
    obtain ⟨w1, w2, w3, w4, w5, w6, w7⟩ := DST_cn (p := N 204 k) hD (by omega)
    have ec := EFX_cn (M := M) (p := N 204 k) (n := n + 1)
    have q8 : ∀ (V : vv_) (Qr : qr_) (Qt : qt_), Cl_ wd0 (Tr_ wd0 pg0 7) V Qr Qt m_346 → Wk_ V → Tr_ wd0 pg0 7 350 [.inr (.inr 6), .inl s, .inl k] N (ri_ fun v1 M1 => if v1 ≤ 0 then V 8 [rr 6, ii s, ii y2, ii (w32 (k + 1)), ii (w32 (n + 1)), ii 1, none, none] [] M1 else (0 ≤ k ∧ k < 1300) ∧ Tr_ wd0 pg0 7 347 [.inr (.inr 6), .inl s, .inl v1, .inl (M1 204 k)] M1 (rv_ fun M2 => Qr [] M2) Qt) Qt → V 8 [rr 6, ii s, ii y2, ii k, ii n, ii 1, none, none] [] N := fun V Qr Qt hV hW g => b_346_8 (Tr_mono _) hV hW _ _ _ _ _ _ (by
      rw [if_neg (by decide), if_neg (by omega), if_pos (by rw [w32_id (x := n + 1) (by (clear hD h30 hp hk hc h203 hnx hb hn xc w1 w3 w4 w5 w6 w7 ec hV hW g; lia)) (by (clear hD h30 hp hk hc h203 hnx hb hn xc w1 w3 w4 w5 w6 w7 ec hV hW g; omega))]; (clear hD h30 hp hk hc h203 hnx hb xc w1 w3 w4 w5 w6 w7 ec hV hW g; lia)), if_neg (by (clear hD h30 hp hk hc hnx hb dn hn xc w1 w2 w3 w4 w5 w6 w7 ec hV hW g; omega)), if_neg (by omega), if_neg (by omega), if_neg (by omega), if_neg (by (clear hD h30 hp hk hc hnx hb dn hn xc w1 w2 w3 w4 w5 w6 w7 ec hV hW g; omega))]
      exact ⟨by omega, by omega, g⟩)
    rcases hb (by (clear hD h30 hp hk hc h203 hnx hb xc w1 w3 w4 w5 w6 w7 ec q8; lia)) with ⟨M', N', x1, q1, ww, wt, fr, e47, e8⟩ | ⟨e, M', N', he, x1, ⟨e49, e50⟩, q1, ru, ty, fr, e7, e8⟩
    · refine .inl ⟨M', N', k + 1, c', n + 1, RC_tr xc x1, fun V Qr Qt hV hW g => q8 V Qr Qt hV hW (Ex_le (d := 7) (by decide) q1 _ _ (ri_i ?_)), ⟨ww.1, ww.2.1, ww.2.2.1, ww.2.2.2.1, ww.2.2.2.2.1, ⟨by rw [e47, w2], by (clear hD h30 hp hk hc h203 hnx hb hn xc w1 w3 w4 w5 w6 w7 ec q8 x1 q1 ww wt fr e8; lia), by (clear hD h30 hp hk hc h203 hnx hb xc w1 w3 w4 w5 w6 w7 ec q8 x1 q1 ww wt fr e8; lia)⟩, ww.2.2.2.2.2, by have := hD.2.2.2.2.2.2.2; (clear hD h30 hp hk hc h203 hnx hb dn hn xc w1 w3 w5 w6 w7 ec q8 x1 q1 ww wt fr; lia)⟩, wt, ?_, ⟨XRF_tr (XRF_ef ec) fr.1, fr.2⟩, .inl (by omega)⟩
      · rw [if_pos (by decide), w32_id (x := k + 1) (by omega) (by omega), w32_id (x := n + 1) (by (clear hD h30 hp hk hc h203 hnx hb hn xc w1 w3 w4 w5 w6 w7 ec q8 x1 q1 ww wt fr e8 hV hW g; lia)) (by (clear hD h30 hp hk hc h203 hnx hb hn xc w1 w3 w4 w5 w6 w7 ec q8 x1 q1 ww wt fr e8 hV hW g; lia))]; exact g
      · rw [swc_e (XRF_tr (XRF_ef ec) fr.1), tbN_e fr.2]; exact hnx
    · refine ac_e (M' := M') (N' := N') (e := e) (p := N 204 k) ru ty (by rw [e7, w7]; exact hD.2.2.2.1) e49 (by rw [e50, w3]) (fun V Qr Qt hV hW g => xc V Qr Qt hV hW (x1 V Qr Qt hV hW g)) ⟨XRF_tr (XRF_ef ec) fr.1, fr.2⟩ (by have := hD.2.2.2.2.2.2.2; (clear hD h30 hp hk hc h203 hnx hb hn xc w1 w3 w5 w6 w7 ec q8 he x1 e49 e50 q1 ru ty fr e7; omega)) (fun V Qr Qt hV hW g => q8 V Qr Qt hV hW (Ex_le (d := 7) (by decide) q1 _ _ (ri_i ?_)))
      rw [if_neg (by (clear hD h30 hp hk hc h203 hnx hb dn hn xc w1 w2 w3 w4 w5 w6 w7 ec q8 x1 e50 q1 ru ty fr e7 e8 hV hW g; lia)), fr.2.1 204 (by decide)]
      exact ⟨by omega, g⟩
end APa
end T354_ap
section T355_bd
/-! the run: RESET, SET, assignments (X 24 | Q 350) -/
section BDa
variable {z : Int} {M N M' N' M1 N1 : mm_} {k t e p s x2 i v n bp T u c c0 c1 c2 f fe op τ γ : Int}
theorem RU_set [Inhabited fz_] (h : RU z M N) (hk : 0 ≤ k ∧ k < M 0 7) (ht : 0 ≤ t ∧ t < 3) (hT : t < N 173 (M 11 k)) (hτ : 0 ≤ τ ∧ τ ≤ 2000000000) (hγ : (z = 0 ∧ γ = τ) ∨ (z = 1 ∧ γ = 0)) : RU z (up_ (up_ M 16 (3 * k + t) 1) 17 (3 * k + t) τ) (up_ N 239 (sB k + 22 + t) γ) := by
  obtain ⟨h1, h2, h3, h4, h5⟩ := h
  have n12 := h1.1
  have hB : sB k = 2 + 56 * k := rfl
  obtain ⟨i1, i2, i3, i4, j1, j4, j5⟩ := h1.2.2.1 k hk.1 hk.2
  have xr : ∀ q : Nat, q ≠ 16 → q ≠ 17 → up_ (up_ M 16 (3 * k + t) 1) 17 (3 * k + t) τ q = M q := fun q e e' => by rw [up_ne e', up_ne e]
  have nr : ∀ q : Nat, q ≠ 239 → up_ N 239 (sB k + 22 + t) γ q = N q := fun q e => up_ne e
  have no : ∀ i, i ≠ sB k + 22 + t → up_ N 239 (sB k + 22 + t) γ 239 i = N 239 i := fun i e => upo e
  refine ⟨RI_k h1 hk ⟨by rw [xr 0 (by decide) (by decide)], by rw [xr 0 (by decide) (by decide)]⟩ (fun q hq i _ => by rw [xr q (fun e => by rw [e] at hq; revert hq; decide) (fun e => by rw [e] at hq; revert hq; decide)]) (fun i _ => by rw [xr 13 (by decide) (by decide)]) (fun i _ => by rw [xr 15 (by decide) (by decide)]) (fun i hi => by rw [up_ne (r := 17) (r' := 16) (by decide), upo (by (clear hk hT hτ hγ h1 h2 h3 h4 h5 n12 hB i1 i2 i3 i4 j1 j4 j5 xr nr no; lia)), upo (by omega), up_ne (by decide)]; exact ⟨rfl, rfl⟩) (fun i hi => no i (by omega)) (by rw [nr 6 (by decide)]) (fun q hq => nr q (fun e => by rw [e] at hq; revert hq; decide)) ?_, RRt_k h2 (xr 21 (by decide) (by decide)) (xr 22 (by decide) (by decide)) (fun i hi => no i (by omega)) (by rw [nr 6 (by decide)]), RSC_c h3 (fun i _ => by rw [xr 0 (by decide) (by decide)]) (fun i _ => by rw [nr 6 (by decide)]), ROU_c h4 (fun i _ => by rw [xr 0 (by decide) (by decide)]) (xr 24 (by decide) (by decide)) (fun i _ => by rw [nr 6 (by decide)]) (nr 241 (by decide)), REV_c h5 (fun i _ => by rw [xr 0 (by decide) (by decide)]) (xr 23 (by decide) (by decide)) (fun i _ => by rw [nr 6 (by decide)]) (nr 240 (by decide))⟩
  unfold IN
  rw [xr 10 (by decide) (by decide), xr 11 (by decide) (by decide), xr 12 (by decide) (by decide), xr 18 (by decide) (by decide), xr 19 (by decide) (by decide), xr 20 (by decide) (by decide), xr 0 (by decide) (by decide), xr 13 (by decide) (by decide), xr 14 (by decide) (by decide), xr 15 (by decide) (by decide), nr 6 (by decide), nr 172 (by decide), nr 173 (by decide), nr 174 (by decide), no (sB k) (by (clear hk hT hτ hγ h1 h2 h3 h4 h5 n12 hB i1 i2 i3 i4 j1 j4 j5 xr nr no; omega)), no (sB k + 1) (by omega), no (sB k + 2) (by omega), no (sB k + 3) (by omega), no (sB k + 4) (by omega), no (sB k + 5) (by omega), no (sB k + 25) (by (clear hk hT hτ hγ h1 h2 h3 h4 h5 n12 hB i1 i2 i3 i4 j1 j4 j5 xr nr no; omega))]
  refine ⟨i1, i2, ⟨fun i i0 i1 => by rw [no _ (by omega)]; exact i3.1 i i0 i1, fun i i0 i1 i2 => by rw [no _ (by omega)]; exact i3.2 i i0 i1 i2⟩, fun s s0 s1 => ?_, j1, fun i i0 i1 => by rw [no _ (by omega)]; exact j4 i i0 i1, fun i i0 i1 => by rw [no _ (by (clear hk hT hτ hγ h1 h2 h3 h4 h5 n12 hB i2 i3 i4 j4 j5 xr nr no i1; lia))]; exact j5 i i0 i1⟩
  by_cases e : s = t
  · rw [e, up_ne (r := 17) (r' := 16) (by decide), up_at, up_at, up_at]; exact ⟨.inl ⟨rfl, hτ, hγ⟩, fun h => by (clear hk ht hτ hγ h1 h2 h3 h4 h5 n12 hB i1 i2 i3 i4 j1 j4 j5 xr nr no s0 s1; lia)⟩
  · rw [up_ne (r := 17) (r' := 16) (by decide), upo (by (clear hk ht hT hτ hγ h1 h2 h3 h4 h5 n12 hB i1 i2 i3 i4 j1 j4 j5 xr nr no s0 s1; lia)), upo (by omega), upo (by (clear hk ht hT hτ hγ h1 h2 h3 h4 h5 n12 hB i1 i2 i3 i4 j1 j4 j5 xr nr no s0 s1; lia)), up_ne (by decide)]; exact i4 s s0 s1
theorem fr_28 [Inhabited fz_] (xr : ∀ r : Nat, r ∉ [14, 15, 16] → M' r = M r) (qr : ∀ r : Nat, r ≠ 239 → N' r = N r) : XRF M M' ∧ QRF N N' :=
  ⟨⟨fun r hr => xr r (fun e => hr (by revert e; simp only [xuL, List.mem_cons, List.not_mem_nil, or_false]; (clear xr qr hr; lia))), fun i _ => by rw [xr 0 (by decide)]⟩, fun r hr => qr r (fun e => hr (by rw [e]; decide)), fun i _ => by rw [qr 6 (by decide)]⟩
theorem bo_4 [Inhabited fz_] (hW : WST z 0 M N s) (hT : M 11 s = T) (hk : 0 ≤ k ∧ k < 1300) (hc : 0 ≤ c ∧ c ≤ 11900) (h203 : N 203 k = 4) (ht : 0 ≤ N 205 k ∧ N 205 k < 3) (hx : M 109 c = 35) (hx1 : M 109 (c + 1) = N 205 k) : BOD z T bp M N s x2 k c (c + 2) := by
  obtain ⟨w1, w2, w3, w4, w5, w6⟩ := hW
  have n12 := w1.1.1
  obtain ⟨M', N', x1, q1, ru, xr, qr, _, ty⟩ := j_28 (t := N 205 k) w1 w4 w5 ht
  have m0 : M' 0 = M 0 := xr 0 (by decide)
  have fr := fr_28 xr qr
  refine .inl ⟨M', N', xw_go (by (clear hT hk h203 ht hx hx1 w1 w2 w3 w4 w5 w6 n12 x1 q1 ru xr qr ty m0 fr; omega)) (w_no (by omega) (by omega)) (fun Qr Qt g => t_24 fun V hV hW => b_24_0 (Tr_mono _) hV hW _ _ ⟨by omega, ?_⟩), fun Qr Qt g => t_350 fun V hV hW => b_350_0 (Tr_mono _) hV hW _ _ _ (Ex_le (d := 1) (by decide) (q_323 (by (clear hT hk hc h203 ht hx hx1 w1 w2 w3 w6 x1 q1 ru xr qr ty m0 fr g hV hW; omega))) _ _ (ri_i ⟨hk, ?_⟩)), ⟨ru, PLr_c w2 fr.1 fr.2, ty w3, by rw [m0]; exact w4, by rw [m0]; exact w5, by rw [m0]; exact w6⟩, by rw [xr 11 (by decide)]; exact hT, fr, by rw [m0], by rw [m0]; omega⟩
  · rw [hx]; simp only [Int.reduceEq, if_true, if_false]
    rw [w32_id (x := c + 1) (by omega) (by omega), w32_id (x := c + 2) (by omega) (by omega), hx1]
    exact ⟨by omega, Ex_le (d := 2) (by decide) x1 _ _ (rv_i g)⟩
  · rw [h203]; simp only [Int.reduceEq, if_true, if_false]
    exact ⟨hk, Ex_le (d := 3) (by decide) q1 _ _ (rv_i g)⟩
/-- an e fails: so does its act -/
theorem bo_e [Inhabited fz_] (hW : WST z 0 M N s) (x1 : Et_ 3 15 [.inr (.inr 0), .inl c] M M1) (hc : 0 ≤ c) (he : e = 1 ∨ e = 2) (fx : EFX M M1) (kp : KP8 M M1) (e49 : M1 0 49 = e) (fq : EFQ N N1) (hq : Ex_ 7 350 [.inr (.inr 6), .inl s, .inl k] N [.inl e] N1) : BOD z T bp M N s x2 k c c2 := by
  obtain ⟨w1, w2, w3, w4, w5, w6⟩ := hW
  exact .inr ⟨e, M1, N1, by (clear x1 hc fx kp e49 fq hq w1 w2 w3 w4 w5 w6; omega), xw_e1 (by omega) x1, ⟨e49, kp.2⟩, hq, RU_ef w1 fx fq, TYA_ef w3 fq, ⟨XRF_ef fx, QRF_ef fq⟩, fx.2 7 (by decide) (by decide) (by decide) (by decide) (by decide), fx.2 8 (by decide) (by decide) (by decide) (by decide) (by decide)⟩
theorem EXP_0 [Inhabited fz_] (hE : EXP M N T c c1 f fe t) : 0 ≤ c ∧ c ≤ c1 ∧ 0 ≤ f ∧ f < fe := by
  obtain ⟨l, _, _, l3, l4, l5, l6, _⟩ := hE
  omega
theorem bo_3 [Inhabited fz_] (hW : WST z 0 M N s) (hT : M 11 s = T) (hk : 0 ≤ k ∧ k < 1300) (hc : c1 ≤ 11800) (hfe : fe ≤ 2900) (h203 : N 203 k = 3) (ht : 0 ≤ N 205 k ∧ N 205 k < N 173 T) (h3 : N 173 T ≤ 3) (hE : EXP (swc M) (tbN N) T c c1 (N 206 k) fe 1) (hx : M 109 c1 = 34) (hx1 : M 109 (c1 + 1) = N 205 k) : BOD z T bp M N s x2 k c (c1 + 2) := by
  have b0 := EXP_0 hE
  obtain ⟨w1, w2, w3, w4, w5, w6⟩ := id hW
  have n12 := w1.1.1
  have hB : sB s = 2 + 56 * s := rfl
  rcases ev_w hW (by decide) hT hE (by omega) hfe (by (clear hW hT hk hc hfe h203 ht h3 hE hx1 b0 w1 w2 w3 w4 w5 w6 n12 hB; omega)) with ⟨A', v, N1, x1, q1, e149, fq, ev, ⟨_, rv⟩, _⟩ | ⟨e, M1, N1, v, he, x1, fx, kp, e49, q1, e149, fq⟩
  · have x2' := EFX_ex (M := M) (A := A') (n := 0)
    have ru2 := RU_ef w1 x2' fq
    have e46 : exX M A' 0 0 46 = s := by rw [exX_0 (by decide)]; exact w5
    have e07 : exX M A' 0 0 7 = M 0 7 := exX_0 (by decide)
    obtain ⟨M3, N3, x3, q3, ru3, xr, qr, _, ty⟩ := j_28 (t := N 205 k) ru2 (by rw [e07]; exact w4) e46 (by (clear hW hT hk hc hfe h203 hE hx b0 w1 w2 w3 w4 w5 w6 n12 hB x1 q1 e149 fq ev rv x2' ru2 e46 e07; omega))
    have m0 : M3 0 = exX M A' 0 0 := xr 0 (by decide)
    have fr3 := fr_28 xr qr
    have now := w1.2.2.1.2.1
    have now3 : M3 0 9 = M 0 9 := by rw [m0, exX_0 (by decide)]
    have nowq : N3 6 128 = M 0 9 := by rw [qr 6 (by decide), fq.2 128 (by decide) (by decide), ← now.1]
    have e173 : N3 173 = N 173 := by rw [qr 173 (by decide), fq.1 173 (by decide) (by decide)]
    have e11 : M3 11 = M 11 := by rw [xr 11 (by decide), exX_r (by decide) (by decide)]
    have zz := w1.2.2.1.1
    have q127 : N3 6 127 = z := by rw [qr 6 (by decide), fq.2 127 (by decide) (by decide)]; exact zz.2.1
    generalize hm : (if 0 < v then v else (0 : Int)) = m
    have m0' : 0 ≤ m ∧ m < 2147483648 := by unfold R32 at rv; split at hm <;> (clear hW hT hk hc hfe h203 ht h3 hE hx hx1 b0 w1 w2 w3 w4 w5 w6 n12 hB x1 q1 e149 fq ev x2' ru2 e46 e07 x3 q3 ru3 xr qr ty m0 fr3 now now3 nowq e173 e11 zz q127; omega)
    generalize hτ : (if M 0 9 + m < 2000000000 then M 0 9 + m else 2000000000) = τ
    have τ0 : 0 ≤ τ ∧ τ ≤ 2000000000 := by split at hτ <;> (clear hW hT hk hc hfe h203 ht h3 hE hx hx1 b0 w1 w2 w3 w4 w5 w6 n12 hB x1 q1 e149 fq ev rv x2' ru2 e46 e07 x3 q3 ru3 xr qr ty m0 fr3 e173 e11 zz q127 hm; omega)
    have k3 : 0 ≤ s ∧ s < M3 0 7 := by rw [m0, e07]; exact w4
    have ru4 := RU_set (γ := if z = 0 then τ else 0) ru3 k3 (show 0 ≤ N 205 k ∧ N 205 k < 3 by (clear hW hT hk hc hfe h203 hE hx b0 w1 w2 w3 w4 w5 w6 n12 hB x1 q1 e149 fq ev rv x2' ru2 e46 e07 x3 q3 ru3 xr qr ty m0 fr3 now now3 nowq e173 e11 zz q127 hm m0' hτ τ0 k3; omega)) (by rw [e11, hT, e173]; exact ht.2) τ0 (by rcases zz.2.2 with e | e; rw [if_pos e]; exact .inl ⟨e, rfl⟩; rw [if_neg (by (clear hW hT hk hc hfe h203 ht h3 hE hx hx1 b0 w1 w2 w3 w4 w5 w6 n12 hB x1 q1 e149 fq ev rv x2' ru2 e46 e07 x3 q3 ru3 xr qr ty m0 fr3 now now3 nowq e173 e11 hm m0' hτ τ0 k3; omega))]; exact .inr ⟨e, rfl⟩)
    have gr : R32 (if z = 0 then τ else 0) := by unfold R32; split <;> omega
    have ty4 : TYA (up_ N3 239 (sB s + 22 + N 205 k) (if z = 0 then τ else 0)) := by
      rw [Int.add_assoc]
      refine TYA_239 (ty (TYA_ef w3 fq)) (by (clear hW hT hk hc hfe h203 ht h3 hE hx hx1 b0 w1 w2 w3 w6 hB x1 q1 e149 fq ev rv x2' ru2 x3 q3 ru3 xr qr ty m0 fr3 now now3 nowq e173 e11 zz q127 hm m0' hτ τ0 k3 ru4 gr; omega)) (22 + N 205 k) _ (by (clear hW hT hk hc hfe h203 hE hx b0 w1 w2 w3 w4 w5 w6 n12 hB x1 q1 e149 fq ev rv x2' ru2 e46 e07 x3 q3 ru3 xr qr ty m0 fr3 now now3 nowq e173 e11 zz q127 hm m0' hτ τ0 k3 ru4 gr; omega)) ?_ gr
      have := ru3.1.1; (clear hW hT hk hc hfe h203 ht h3 hE hx hx1 b0 w1 w2 w3 w4 w6 n12 hB x1 q1 e149 fq ev rv x2' ru2 e07 x3 q3 ru3 xr qr ty m0 fr3 now now3 nowq e173 e11 zz q127 hm m0' hτ τ0 ru4 gr; omega)
    have fx4 : XRF M3 (up_ (up_ M3 16 (3 * s + N 205 k) 1) 17 (3 * s + N 205 k) τ) := XRF_tr (XRF_up (by decide) (fun e => absurd e (by decide))) (XRF_up (by decide) (fun e => absurd e (by decide)))
    have fq4 : QRF N3 (up_ N3 239 (sB s + 22 + N 205 k) (if z = 0 then τ else 0)) := QRF_up (by decide) (fun e => absurd e (by decide))
    have fX : XRF M (up_ (up_ M3 16 (3 * s + N 205 k) 1) 17 (3 * s + N 205 k) τ) := XRF_tr (XRF_tr (XRF_ef x2') fr3.1) fx4
    have fQ : QRF N (up_ N3 239 (sB s + 22 + N 205 k) (if z = 0 then τ else 0)) := QRF_tr (QRF_tr (QRF_ef fq) fr3.2) fq4
    have z0 : up_ (up_ M3 16 (3 * s + N 205 k) 1) 17 (3 * s + N 205 k) τ 0 = exX M A' 0 0 := by rw [up_ne (by decide), up_ne (by decide), m0]
    refine .inl ⟨_, _, xw_go (by omega) x1 (fun Qr Qt g => t_24 fun V hV hW => b_24_0 (Tr_mono _) hV hW _ _ ⟨by (clear hT hk hfe h203 ht h3 hE hx hx1 w1 w2 w3 w4 w5 w6 n12 hB x1 q1 e149 fq ev rv x2' ru2 e46 e07 x3 q3 ru3 xr qr ty m0 fr3 now now3 nowq e173 e11 zz q127 hm m0' hτ τ0 k3 ru4 gr ty4 fx4 fq4 fX fQ z0 g hV hW; omega), ?_⟩), fun Qr Qt g => t_350 fun V hV hW => b_350_0 (Tr_mono _) hV hW _ _ _ (Ex_le (d := 1) (by decide) (q_323 (by (clear hT hk hc hfe h203 ht h3 hE hx hx1 b0 w1 w2 w3 w6 hB x1 q1 e149 fq ev rv x2' ru2 x3 q3 ru3 xr qr ty m0 fr3 now now3 nowq e173 e11 zz q127 hm m0' hτ τ0 k3 ru4 gr ty4 fx4 fq4 fX fQ z0 g hV hW; omega))) _ _ (ri_i ⟨hk, ?_⟩)), ⟨ru4, PLr_c w2 fX fQ, ty4, by rw [z0, e07]; exact w4, by rw [z0]; exact e46, by rw [z0, exX_45]⟩, ?_, ⟨fX, fQ⟩, by rw [z0, exX_0 (by decide)], by rw [z0, exX_0 (by decide)]; (clear hW hT hk hc hfe h203 ht h3 hE hx hx1 b0 w1 w2 w3 w4 w5 w6 n12 hB x1 q1 e149 fq ev rv x2' ru2 e46 e07 x3 q3 ru3 xr qr ty m0 fr3 now now3 nowq e173 e11 zz q127 hm m0' hτ τ0 k3 ru4 gr ty4 fx4 fq4 fX fQ z0; omega)⟩
    · rw [exX_r (r := 109) (by decide) (by decide), hx]; simp only [Int.reduceEq, if_true, if_false]
      have p18 := x_18 (M := M) (A := A') (n := 0 + 1) (by decide)
      rw [show (0 : Int) + 1 - 1 = 0 from rfl, ev] at p18
      refine Ex_le (d := 1) (by decide) p18 _ _ (ri_i ?_)
      rw [exX_r (r := 109) (by decide) (by decide), w32_id (x := c1 + 1) (by (clear hT hk hc hfe h203 ht h3 hE hx hx1 w1 w2 w3 w4 w5 w6 n12 hB x1 q1 e149 fq ev rv x2' ru2 e46 e07 x3 q3 ru3 xr qr ty m0 fr3 now now3 nowq e173 e11 zz q127 hm m0' hτ τ0 k3 ru4 gr ty4 fx4 fq4 fX fQ z0 g hV hW p18; omega)) (by (clear hT hk hfe h203 ht h3 hE hx hx1 b0 w1 w2 w3 w4 w5 w6 n12 hB x1 q1 e149 fq ev rv x2' ru2 e46 e07 x3 q3 ru3 xr qr ty m0 fr3 now now3 nowq e173 e11 zz q127 hm m0' hτ τ0 k3 ru4 gr ty4 fx4 fq4 fX fQ z0 g hV hW p18; omega)), hx1]
      refine ⟨by (clear hT hk hfe h203 ht h3 hE hx hx1 w1 w2 w3 w4 w5 w6 n12 hB x1 q1 e149 fq ev rv x2' ru2 e46 e07 x3 q3 ru3 xr qr ty m0 fr3 now now3 nowq e173 e11 zz q127 hm m0' hτ τ0 k3 ru4 gr ty4 fx4 fq4 fX fQ z0 g hV hW p18; omega), Ex_le (d := 2) (by decide) x3 _ _ (rv_i ?_)⟩
      rw [m0, e46, fr3.1.1 109 (by decide), exX_r (r := 109) (by decide) (by decide), hx1, exX_0 (i := 9) (by decide), w32_id (x := 3 * s) (by (clear hT hk hc hfe h203 ht h3 hE hx hx1 b0 w1 w2 w3 w6 n12 hB x1 q1 e149 fq ev rv x2' ru2 e07 x3 q3 ru3 xr qr ty m0 fr3 now now3 nowq e173 e11 zz q127 hm m0' hτ τ0 k3 ru4 gr ty4 fx4 fq4 fX fQ z0 g hV hW p18; omega)) (by (clear hT hk hc hfe h203 ht h3 hE hx hx1 b0 w1 w2 w3 w6 hB x1 q1 e149 fq ev rv x2' ru2 x3 q3 ru3 xr qr ty m0 fr3 now now3 nowq e173 e11 zz q127 hm m0' hτ τ0 k3 ru4 gr ty4 fx4 fq4 fX fQ z0 g hV hW p18; omega)), w32_id (x := 3 * s + N 205 k) (by omega) (by (clear hT hk hc hfe h203 hE hx b0 w1 w2 w3 w6 hB x1 q1 e149 fq ev rv x2' ru2 x3 q3 ru3 xr qr ty m0 fr3 now now3 nowq e173 e11 zz q127 hm m0' hτ τ0 k3 ru4 gr ty4 fx4 fq4 fX fQ z0 g hV hW p18; omega)), hm, w64_id (x := M 0 9 + m) (by (clear hT hk hc hfe h203 ht h3 hE hx hx1 b0 w1 w2 w3 w4 w5 w6 n12 hB x1 q1 e149 fq ev rv x2' ru2 e46 e07 x3 q3 ru3 xr qr ty m0 fr3 e173 e11 zz q127 hm hτ τ0 k3 ru4 gr ty4 fx4 fq4 fX fQ z0 g hV hW p18; omega)) (by (clear hT hk hc hfe h203 ht h3 hE hx hx1 b0 w1 w2 w3 w4 w5 w6 n12 hB x1 q1 e149 fq ev rv x2' ru2 e46 e07 x3 q3 ru3 xr qr ty m0 fr3 e173 e11 zz q127 hm hτ τ0 k3 ru4 gr ty4 fx4 fq4 fX fQ z0 g hV hW p18; omega)), hτ, w32_id (x := τ) (by (clear hT hk hc hfe h203 ht h3 hE hx hx1 b0 w1 w2 w3 w4 w5 w6 n12 hB x1 q1 e149 fq ev rv x2' ru2 e46 e07 x3 q3 ru3 xr qr ty m0 fr3 now now3 nowq e173 e11 zz q127 hm m0' hτ k3 ru4 gr ty4 fx4 fq4 fX fQ z0 g hV hW p18; omega)) (by (clear hT hk hc hfe h203 ht h3 hE hx hx1 b0 w1 w2 w3 w4 w5 w6 n12 hB x1 q1 e149 fq ev rv x2' ru2 e46 e07 x3 q3 ru3 xr qr ty m0 fr3 now now3 nowq e173 e11 zz q127 hm m0' hτ k3 ru4 gr ty4 fx4 fq4 fX fQ z0 g hV hW p18; omega)), w32_id (x := c1 + 2) (by (clear hT hk hc hfe h203 ht h3 hE hx hx1 w1 w2 w3 w4 w5 w6 n12 hB x1 q1 e149 fq ev rv x2' ru2 e46 e07 x3 q3 ru3 xr qr ty m0 fr3 now now3 nowq e173 e11 zz q127 hm m0' hτ τ0 k3 ru4 gr ty4 fx4 fq4 fX fQ z0 g hV hW p18; omega)) (by omega)]
      exact ⟨by omega, ⟨by (clear hT hk hc hfe h203 hE hx b0 w1 w2 w3 w6 hB x1 q1 e149 fq ev rv x2' ru2 x3 q3 ru3 xr qr ty m0 fr3 now now3 nowq e173 e11 zz q127 hm m0' hτ τ0 k3 ru4 gr ty4 fx4 fq4 fX fQ z0 g hV hW p18; lia), .inr rfl⟩, by omega, by omega, g⟩
    · rw [h203]; simp only [Int.reduceEq, if_true, if_false]
      refine ⟨hk, Ex_le (d := 4) (by decide) q1 _ _ (ri_i ?_)⟩
      rw [e149, if_pos (by decide), fq.1 205 (by decide) (by decide)]
      refine ⟨hk, Ex_le (d := 3) (by decide) q3 _ _ (rv_i ?_)⟩
      have k107 : ∀ y, y = M 0 9 + m → V 107 [rr 6, ii s, ii k, ii (sB s), ii v, jj y, none] [] N3 := fun y hy => b_350_107 (Tr_mono _) hV hW _ _ _ _ _ _ ⟨hk, fun _ => by
        rw [q127, qr 205 (by decide), fq.1 205 (by decide) (by decide), w32_id (x := sB s + 22) (by (clear hT hk hc hfe h203 ht h3 hE hx hx1 b0 w1 w2 w3 w6 n12 x1 q1 e149 fq ev rv x2' ru2 e07 x3 q3 ru3 xr qr ty m0 fr3 now now3 nowq e173 e11 zz q127 hm m0' hτ τ0 k3 ru4 gr ty4 fx4 fq4 fX fQ z0 g hV hW hy; omega)) (by (clear hT hk hc hfe h203 ht h3 hE hx hx1 b0 w1 w2 w3 w6 x1 q1 e149 fq ev rv x2' ru2 x3 q3 ru3 xr qr ty m0 fr3 now now3 nowq e173 e11 zz q127 hm m0' hτ τ0 k3 ru4 gr ty4 fx4 fq4 fX fQ z0 g hV hW hy; omega)), w32_id (x := sB s + 22 + N 205 k) (by (clear hT hk hc hfe h203 hE hx b0 w1 w2 w3 w6 n12 x1 q1 e149 fq ev rv x2' ru2 e07 x3 q3 ru3 xr qr ty m0 fr3 now now3 nowq e173 e11 zz q127 hm m0' hτ τ0 k3 ru4 gr ty4 fx4 fq4 fX fQ z0 g hV hW hy; omega)) (by (clear hT hk hc hfe h203 hE hx b0 w1 w2 w3 w6 x1 q1 e149 fq ev rv x2' ru2 x3 q3 ru3 xr qr ty m0 fr3 now now3 nowq e173 e11 zz q127 hm m0' hτ τ0 k3 ru4 gr ty4 fx4 fq4 fX fQ z0 g hV hW hy; lia)), hy]
        by_cases cz : z = 0
        · rw [if_pos cz] at g ⊢
          by_cases ct : M 0 9 + m ≤ 2000000000
          · rw [if_pos (by split; decide; split; decide; (clear hT hk hc hfe h203 ht h3 hE hx hx1 b0 w1 w2 w3 w4 w5 w6 n12 hB x1 q1 e149 fq ev rv x2' ru2 e46 e07 x3 q3 ru3 xr qr ty m0 fr3 e173 e11 zz q127 hm m0' hτ τ0 k3 ru4 gr ty4 fx4 fq4 fX fQ z0 g hV hW cz; omega)), w32_id (x := M 0 9 + m) (by (clear hT hk hc hfe h203 ht h3 hE hx hx1 b0 w1 w2 w3 w4 w5 w6 n12 hB x1 q1 e149 fq ev rv x2' ru2 e46 e07 x3 q3 ru3 xr qr ty m0 fr3 e173 e11 zz q127 hm hτ τ0 k3 ru4 gr ty4 fx4 fq4 fX fQ z0 g hV hW cz ct; omega)) (by (clear hT hk hc hfe h203 ht h3 hE hx hx1 b0 w1 w2 w3 w4 w5 w6 n12 hB x1 q1 e149 fq ev rv x2' ru2 e46 e07 x3 q3 ru3 xr qr ty m0 fr3 e173 e11 zz q127 hm m0' hτ τ0 k3 ru4 gr ty4 fx4 fq4 fX fQ z0 g hV hW cz; omega)), show M 0 9 + m = τ by split at hτ <;> omega]
            exact ⟨by (clear hT hk hc hfe h203 hE hx b0 w1 w2 w3 w6 x1 q1 e149 fq ev rv x2' ru2 x3 q3 ru3 xr qr ty m0 fr3 now now3 nowq e173 e11 zz q127 hm m0' hτ τ0 k3 ru4 gr ty4 fx4 fq4 fX fQ z0 g hV hW hy cz ct; lia), g⟩
          · rw [if_neg (by rw [if_neg (by (clear hT hk hc hfe h203 ht h3 hE hx hx1 b0 w1 w2 w3 w4 w5 w6 n12 hB x1 q1 e149 fq ev rv x2' ru2 e46 e07 x3 q3 ru3 xr qr ty m0 fr3 e173 e11 zz q127 hm m0' hτ τ0 k3 ru4 gr ty4 fx4 fq4 fX fQ z0 g hV hW cz; omega)), if_neg (by (clear hT hk hc hfe h203 ht h3 hE hx hx1 b0 w1 w2 w3 w4 w5 w6 n12 hB x1 q1 e149 fq ev rv x2' ru2 e46 e07 x3 q3 ru3 xr qr ty m0 fr3 e173 e11 zz q127 hm m0' hτ τ0 k3 ru4 gr ty4 fx4 fq4 fX fQ z0 g hV hW cz; omega))]; decide), show (2000000000 : Int) = τ by split at hτ <;> omega]
            exact ⟨by omega, g⟩
        · rw [if_neg cz] at g ⊢; exact ⟨by omega, g⟩⟩
      rw [nowq]
      unfold R32 at rv
      by_cases cv : v < 0
      · rw [if_pos cv]; exact k107 _ (by rw [w64_id (by (clear hT hk hc hfe h203 ht h3 hE hx hx1 b0 w1 w2 w3 w4 w5 w6 n12 hB x1 q1 e149 fq ev rv x2' ru2 e46 e07 x3 q3 ru3 xr qr ty m0 fr3 e173 e11 zz q127 hm m0' hτ τ0 k3 ru4 gr ty4 fx4 fq4 fX fQ z0 g hV hW k107 cv; omega)) (by (clear hT hk hc hfe h203 ht h3 hE hx hx1 b0 w1 w2 w3 w4 w5 w6 n12 hB x1 q1 e149 fq ev rv x2' ru2 e46 e07 x3 q3 ru3 xr qr ty m0 fr3 e173 e11 zz q127 hm m0' hτ τ0 k3 ru4 gr ty4 fx4 fq4 fX fQ z0 g hV hW k107 cv; omega)), ← hm, if_neg (by (clear hT hk hc hfe h203 ht h3 hE hx hx1 b0 w1 w2 w3 w4 w5 w6 n12 hB x1 q1 e149 fq ev x2' ru2 e46 e07 x3 q3 ru3 xr qr ty m0 fr3 now now3 nowq e173 e11 zz q127 hm m0' hτ τ0 k3 ru4 gr ty4 fx4 fq4 fX fQ z0 g hV hW k107; omega))])
      · rw [if_neg cv]; exact k107 _ (by rw [w64_id (by (clear hT hk hc hfe h203 ht h3 hE hx hx1 b0 w1 w2 w3 w4 w5 w6 n12 hB x1 q1 e149 fq ev x2' ru2 e46 e07 x3 q3 ru3 xr qr ty m0 fr3 e173 e11 zz q127 hm m0' hτ τ0 k3 ru4 gr ty4 fx4 fq4 fX fQ z0 g hV hW k107; omega)) (by (clear hT hk hc hfe h203 ht h3 hE hx hx1 b0 w1 w2 w3 w4 w5 w6 n12 hB x1 q1 e149 fq ev x2' ru2 e46 e07 x3 q3 ru3 xr qr ty m0 fr3 e173 e11 zz q127 hm m0' hτ τ0 k3 ru4 gr ty4 fx4 fq4 fX fQ z0 g hV hW k107; omega)), ← hm]; split <;> (clear hT hk hc hfe h203 ht h3 hE hx hx1 b0 w1 w2 w3 w4 w5 w6 n12 hB x1 q1 e149 fq ev x2' ru2 e46 e07 x3 q3 ru3 xr qr ty m0 fr3 now now3 nowq e173 e11 zz q127 hm m0' hτ τ0 k3 ru4 gr ty4 fx4 fq4 fX fQ z0 g hV hW k107; omega))
    · rw [up_ne (by decide), up_ne (by decide), e11]; exact hT
  · refine bo_e hW x1 (by (clear hW hT hk hc hfe h203 ht h3 hE hx hx1 w1 w2 w3 w4 w5 w6 n12 hB he x1 fx kp e49 q1 e149 fq; omega)) he fx kp e49 fq (fun Qr Qt g => t_350 fun V hV hW => b_350_0 (Tr_mono _) hV hW _ _ _ (Ex_le (d := 1) (by decide) (q_323 (by (clear hT hk hc hfe h203 ht h3 hE hx hx1 b0 w1 w2 w3 w6 hB he x1 fx kp e49 q1 e149 fq g hV hW; lia))) _ _ (ri_i ⟨hk, ?_⟩)))
    rw [h203]; simp only [Int.reduceEq, if_true, if_false]
    refine ⟨hk, Ex_le (d := 4) (by decide) q1 _ _ (ri_i ?_)⟩
    rw [e149, if_neg (by (clear hT hk hc hfe h203 ht h3 hE hx hx1 b0 w1 w2 w3 w4 w5 w6 n12 hB x1 fx kp e49 q1 fq g hV hW; lia))]; exact g
end BDa
end T355_bd
section T356_as
/-! the run: assignments (X 24 | Q 351) -/
section ASa
variable {z : Int} {M N M' N' M1 N1 : mm_} {A : Int → Int} {k t e p s x2 i v n bp T u c c0 c1 c2 f fe op val : Int}
/-- the value lands -/
theorem as_l [Inhabited fz_] (hW : WST z 0 M N s) (hT : M 11 s = T) (fx : EFX M M1) (fq : EFQ N N1) (h46 : M1 0 46 = s) (h45 : M1 0 45 = 0) (h47 : M1 0 47 = M 0 47) (hv : 8 * T ≤ v ∧ v < 8 * T + N 171 T) (hi : 0 ≤ i ∧ i < (if 1 < N 183 v then N 183 v else 1)) (hb : (N 182 v = 2 → BV val) ∧ R32 val) :
    WST z 0 (up_ M1 13 (16 * s + (N 184 v + i)) val) (up_ N1 239 (sB s + 6 + (N 184 v + i)) val) s ∧ up_ M1 13 (16 * s + (N 184 v + i)) val 11 s = T ∧ (XRF M (up_ M1 13 (16 * s + (N 184 v + i)) val) ∧ QRF N (up_ N1 239 (sB s + 6 + (N 184 v + i)) val)) ∧ up_ M1 13 (16 * s + (N 184 v + i)) val 0 47 = M 0 47 ∧ up_ M1 13 (16 * s + (N 184 v + i)) val 0 8 ≤ M 0 8 + 1 ∧ (0 ≤ N 184 v + i ∧ N 184 v + i < 16) ∧ (0 ≤ v ∧ v < 48) ∧ (0 ≤ N 184 v ∧ N 184 v < 16) := by
  obtain ⟨w1, w2, w3, w4, w5, w6⟩ := id hW
  have ru := RU_ef w1 fx fq
  have hP := PLr_c w2 (XRF_ef fx) (QRF_ef fq)
  have tA := TYA_ef w3 fq
  have e11 : M1 11 = M 11 := fx.1 11 (by decide) (by decide)
  have e7 : M1 0 7 = M 0 7 := fx.2 7 (by decide) (by decide) (by decide) (by decide) (by decide)
  have e8 : M1 0 8 = M 0 8 := fx.2 8 (by decide) (by decide) (by decide) (by decide) (by decide)
  have q : ∀ r : Nat, r ≠ 6 → r ≠ 243 → N1 r = N r := fq.1
  have vv : 8 * T + (v - 8 * T) = v := by (clear hW hT fx fq h46 h45 h47 hv hi hb w1 w2 w3 w4 w5 w6 ru hP tA e11 e7 e8 q; lia)
  have hb' := vr_b (x := (0, v)) (EVC_of w1 w2 w3 w4 w5) (by rw [hT]; exact hv)
  dsimp only at hb'
  obtain ⟨t1, t2, t3⟩ := TYA_as (i := N 184 v + i) (v := val) (u := v - 8 * T) (T := T) ru hP tA (by rw [e7]; exact w4) (by rw [e11]; exact hT) (by rw [q 171 (by decide) (by decide)]; omega) (by rw [q 184 (by decide) (by decide), q 183 (by decide) (by decide), vv]; (clear hW hT fx fq h46 h45 h47 hv hb w1 w2 w3 w4 w5 w6 ru hP tA e11 e7 e8 q vv hb'; omega)) (by rw [q 182 (by decide) (by decide), vv]; exact hb.1) hb.2
  have ru2 := RU_as (v := val) ru (k := s) (by rw [e7]; exact w4) t2 (by rw [e11, hT]; exact t3)
  have f13 : XRF M1 (up_ M1 13 (16 * s + (N 184 v + i)) val) := XRF_up (by decide) (fun e => absurd e (by decide))
  have f239 : QRF N1 (up_ N1 239 (sB s + 6 + (N 184 v + i)) val) := QRF_up (by decide) (fun e => absurd e (by decide))
  refine ⟨⟨ru2, PLr_c hP f13 f239, t1, by rw [up_ne (by decide), e7]; exact w4, by rw [up_ne (by decide)]; exact h46, by rw [up_ne (by decide)]; exact h45⟩, by rw [up_ne (by decide), e11]; exact hT, ⟨XRF_tr (XRF_ef fx) f13, QRF_tr (QRF_ef fq) f239⟩, by rw [up_ne (by decide)]; exact h47, by rw [up_ne (by decide), e8]; omega, t2, hb'.1, ?_⟩
  have h1 := hb'.2.2
  have h2 := hb'.2.1
  split at h1 <;> (clear hW hT fx fq h46 h45 h47 hv hb w1 w2 w3 w4 w5 w6 ru hP tA e11 e7 e8 q vv t1 t3 ru2 f13 f239 h2; omega)
theorem q_351 [Inhabited fz_] (hs : 0 ≤ s ∧ s < 12) (hk : 0 ≤ k ∧ k < 1300) (h203 : N 203 k = 1) (h : Ex_ 5 351 [.inr (.inr 6), .inl s, .inl k] N [.inl v] N') : Ex_ 7 350 [.inr (.inr 6), .inl s, .inl k] N [.inl v] N' := fun Qr Qt g => t_350 fun V hV hW => b_350_0 (Tr_mono _) hV hW _ _ _ (Ex_le (d := 1) (by decide) (q_323 (by omega)) _ _ (ri_i ⟨hk, by
  rw [h203]; simp only [if_true]
  exact Ex_le (d := 5) (by decide) h _ _ (ri_i g)⟩))
theorem bo_1a [Inhabited fz_] (hW : WST z 0 M N s) (hT : M 11 s = T) (hk : 0 ≤ k ∧ k < 1300) (hc : c1 ≤ 11800) (hfe : fe ≤ 2900) (h203 : N 203 k = 1) (hv : 8 * T ≤ N 205 k ∧ N 205 k < 8 * T + N 171 T) (h206 : N 206 k = -1) (h183 : N 183 (N 205 k) = 0) (hE : EXP (swc M) (tbN N) T c c1 (N 207 k) fe (N 182 (N 205 k))) (hx : M 109 c1 = 31) (hx1 : M 109 (c1 + 1) = N 184 (N 205 k)) : BOD z T bp M N s x2 k c (c1 + 2) := by
  have b0 := EXP_0 hE
  obtain ⟨w1, w2, w3, w4, w5, w6⟩ := id hW
  have n12 := w1.1.1
  have hB : sB s = 2 + 56 * s := rfl
  rcases ev_w hW (by decide) hT hE (by omega) hfe (by omega) with ⟨A', v, N1, x1, q1, e149, fq, ev, rv, _⟩ | ⟨e, M1, N1, v, he, x1, fx, kp, e49, q1, e149, fq⟩
  · obtain ⟨l1, l2, l3, l4, l5, l6, l7, l8⟩ := as_l (i := 0) (val := v) hW hT (EFX_ex (A := A') (n := 0)) fq (by rw [exX_0 (by decide)]; exact w5) exX_45 (exX_0 (by decide)) hv (by rw [h183]; decide) rv
    refine .inl ⟨_, _, xw_go (by omega) x1 (fun Qr Qt g => t_24 fun V hV hW => b_24_0 (Tr_mono _) hV hW _ _ ⟨by (clear hT hk hfe h203 hv h206 h183 hE hx hx1 w1 w2 w3 w4 w5 w6 n12 hB x1 q1 e149 fq ev rv l1 l2 l3 l4 l5 l6 l7 l8 g hV hW; omega), ?_⟩), q_351 (by (clear hW hT hk hc hfe h203 hv h206 h183 hE hx hx1 b0 w1 w2 w3 w6 hB x1 q1 e149 fq ev rv l1 l2 l3 l4 l5 l6 l7 l8; omega)) hk h203 (fun Qr Qt g => t_351 fun V hV hW => b_351_0 (Tr_mono _) hV hW _ _ _ ⟨hk, hk, ?_⟩), l1, l2, l3, l4, l5⟩
    · rw [exX_r (r := 109) (by decide) (by decide), hx]; simp only [Int.reduceEq, if_true, if_false]
      rw [w32_id (x := c1 + 1) (by (clear hT hk hc hfe h203 hv h206 h183 hE hx hx1 w1 w2 w3 w4 w5 w6 n12 hB x1 q1 e149 fq ev rv l1 l2 l3 l4 l5 l6 l7 l8 g hV hW; omega)) (by omega), hx1]
      have p18 := x_18 (M := M) (A := A') (n := 0 + 1) (by decide)
      rw [show (0 : Int) + 1 - 1 = 0 from rfl, ev] at p18
      refine ⟨by (clear hT hk hfe h203 hv h206 h183 hE hx hx1 w1 w2 w3 w4 w5 w6 n12 hB x1 q1 e149 fq ev rv l1 l2 l3 l4 l5 l6 l7 l8 g hV hW p18; omega), Ex_le (d := 1) (by decide) p18 _ _ (ri_i ?_)⟩
      rw [exX_0 (i := 46) (by decide), w5, w32_id (x := 16 * s) (by (clear hT hk hc hfe h203 hv h206 h183 hE hx hx1 b0 w1 w2 w3 w6 n12 hB x1 q1 e149 fq ev rv l1 l2 l3 l4 l5 l6 l7 l8 g hV hW p18; omega)) (by (clear hT hk hc hfe h203 hv h206 h183 hE hx hx1 b0 w1 w2 w3 w6 hB x1 q1 e149 fq ev rv l1 l2 l3 l4 l5 l6 l7 l8 g hV hW p18; omega)), w32_id (x := 16 * s + N 184 (N 205 k)) (by (clear hT hk hc hfe h203 hv h206 h183 hE hx hx1 b0 w1 w2 w3 w6 n12 hB x1 q1 e149 fq ev rv l1 l2 l3 l4 l5 l7 l8 g hV hW p18; omega)) (by (clear hT hk hc hfe h203 hv h206 h183 hE hx hx1 b0 w1 w2 w3 w6 hB x1 q1 e149 fq ev rv l1 l2 l3 l4 l5 l7 l8 g hV hW p18; omega)), w32_id (x := c1 + 2) (by (clear hT hk hc hfe h203 hv h206 h183 hE hx hx1 w1 w2 w3 w4 w5 w6 n12 hB x1 q1 e149 fq ev rv l1 l2 l3 l4 l5 l6 l7 l8 g hV hW p18; omega)) (by omega)]
      rw [Int.add_zero] at g
      exact ⟨by (clear hT hk hc hfe h203 hv h206 h183 hE hx hx1 b0 w1 w2 w3 w6 hB x1 q1 e149 fq ev rv l1 l2 l3 l4 l5 l7 l8 g hV hW p18; omega), g⟩
    · rw [h206, if_pos (by decide)]
      refine b_351_62 (Tr_mono _) hV hW _ _ _ _ _ ⟨hk, q1 _ _ (ri_i ?_)⟩
      rw [e149, if_pos (by decide)]
      refine Ex_le (d := 1) (by decide) (q_323 (by (clear hT hk hc hfe h203 hv h206 h183 hE hx hx1 b0 w1 w2 w3 w6 hB x1 q1 e149 fq ev rv l1 l2 l3 l4 l5 l6 l7 l8 g hV hW; omega))) _ _ (ri_i ?_)
      rw [fq.1 184 (by decide) (by decide), w32_id (x := sB s + 6) (by (clear hT hk hc hfe h203 hv h206 h183 hE hx hx1 b0 w1 w2 w3 w6 n12 x1 q1 e149 fq ev rv l1 l2 l3 l4 l5 l6 l7 l8 g hV hW; omega)) (by (clear hT hk hc hfe h203 hv h206 h183 hE hx hx1 b0 w1 w2 w3 w6 x1 q1 e149 fq ev rv l1 l2 l3 l4 l5 l6 l7 l8 g hV hW; omega)), w32_id (x := sB s + 6 + N 184 (N 205 k)) (by (clear hT hk hc hfe h203 hv h206 h183 hE hx hx1 b0 w1 w2 w3 w6 n12 x1 q1 e149 fq ev rv l1 l2 l3 l4 l5 l7 l8 g hV hW; omega)) (by (clear hT hk hc hfe h203 hv h206 h183 hE hx hx1 b0 w1 w2 w3 w6 x1 q1 e149 fq ev rv l1 l2 l3 l4 l5 l7 l8 g hV hW; omega)), w32_id (x := sB s + 6 + N 184 (N 205 k) + 0) (by (clear hT hk hc hfe h203 hv h206 h183 hE hx hx1 b0 w1 w2 w3 w6 n12 x1 q1 e149 fq ev rv l1 l2 l3 l4 l5 l7 l8 g hV hW; lia)) (by (clear hT hk hc hfe h203 hv h206 h183 hE hx hx1 b0 w1 w2 w3 w6 x1 q1 e149 fq ev rv l1 l2 l3 l4 l5 l7 l8 g hV hW; omega)), Int.add_assoc (sB s + 6)]
      exact ⟨l7, by (clear hT hk hc hfe h203 hv h206 h183 hE hx hx1 b0 w1 w2 w3 w6 x1 q1 e149 fq ev rv l1 l2 l3 l4 l5 l7 l8 g hV hW; omega), g⟩
  · refine bo_e hW x1 (by (clear hW hT hk hc hfe h203 hv h206 h183 hE hx hx1 w1 w2 w3 w4 w5 w6 n12 hB he x1 fx kp e49 q1 e149 fq; omega)) he fx kp e49 fq (q_351 (by (clear hW hT hk hc hfe h203 hv h206 h183 hE hx hx1 b0 w1 w2 w3 w6 hB he x1 fx kp e49 q1 e149 fq; lia)) hk h203 (fun Qr Qt g => t_351 fun V hV hW => b_351_0 (Tr_mono _) hV hW _ _ _ ⟨hk, hk, ?_⟩))
    rw [h206, if_pos (by decide)]
    refine b_351_62 (Tr_mono _) hV hW _ _ _ _ _ ⟨hk, q1 _ _ (ri_i ?_)⟩
    rw [e149, if_neg (by (clear hT hk hc hfe h203 hv h206 h183 hE hx hx1 b0 w1 w2 w3 w4 w5 w6 n12 hB x1 fx kp e49 q1 fq g hV hW; lia))]; exact g
theorem bo_1b [Inhabited fz_] (hW : WST z 0 M N s) (hT : M 11 s = T) (hk : 0 ≤ k ∧ k < 1300) (hc : c1 ≤ 11800) (hfe : fe ≤ 2900) (h203 : N 203 k = 1) (hv : 8 * T ≤ N 205 k ∧ N 205 k < 8 * T + N 171 T) (h183 : 0 < N 183 (N 205 k)) (hE0 : EXP (swc M) (tbN N) T c c0 (N 206 k) fe 1) (hx0 : M 109 c0 = 45) (hx01 : M 109 (c0 + 1) = N 183 (N 205 k)) (hE : EXP (swc M) (tbN N) T (c0 + 2) c1 (N 207 k) fe (N 182 (N 205 k))) (hx : M 109 c1 = 32) (hx1 : M 109 (c1 + 1) = N 184 (N 205 k)) : BOD z T bp M N s x2 k c (c1 + 2) := by
  have b0 := EXP_0 hE0
  have b1 := EXP_0 hE
  obtain ⟨w1, w2, w3, w4, w5, w6⟩ := id hW
  have n12 := w1.1.1
  have hB : sB s = 2 + 56 * s := rfl
  have v48 := (vr_b (x := (0, N 205 k)) (EVC_of w1 w2 w3 w4 w5) (by rw [hT]; exact hv)).1
  dsimp only at v48
  rcases ev_w hW (by decide) hT hE0 (by (clear hW hT hk hfe h203 hv h183 hE0 hx0 hx01 hE hx hx1 b0 w1 w2 w3 w4 w5 w6 n12 hB v48; omega)) hfe (by (clear hW hT hk hc hfe h203 hv h183 hE0 hx01 hE hx hx1 b0 b1 w1 w2 w3 w4 w5 w6 n12 hB v48; omega)) with ⟨A', i, N1, x1, q1, e149, fq, ev, rv, _⟩ | ⟨e, M1, N1, v, he, x1, fx, kp, e49, q1, e149, fq⟩
  · have q0 : ∀ (w : Int) (N2 : mm_), (∀ (V : vv_) (Qr : qr_) (Qt : qt_), Cl_ wd0 (Tr_ wd0 pg0 4) V Qr Qt m_351 → Wk_ V → Qr [.inl w] N2 → (if i < 0 then Qr [.inl 1] N1 else (if i < N 183 (N 205 k) then V 62 [rr 6, ii s, ii k, ii (N 205 k), ii i, none] [] N1 else Qr [.inl 1] N1))) → Ex_ 7 350 [.inr (.inr 6), .inl s, .inl k] N [.inl w] N2 := fun w N2 h => q_351 (by (clear hW hT hk hc hfe h203 hv h183 hE0 hx0 hx01 hE hx hx1 b0 b1 w1 w2 w3 w6 hB v48 x1 q1 e149 fq ev rv h; lia)) hk h203 (fun Qr Qt g => t_351 fun V hV hW => b_351_0 (Tr_mono _) hV hW _ _ _ ⟨hk, hk, by
      have h' := h V Qr Qt hV hW g
      rw [if_neg (by (clear hT hk hc hfe h203 hv h183 hE0 hx0 hx01 hE hx hx1 b1 w1 w2 w3 w4 w5 w6 n12 hB v48 x1 q1 e149 fq ev rv h g hV hW h'; omega))]
      refine ⟨hk, q1 _ _ (ri_i ?_)⟩
      rw [e149, if_pos (by decide), fq.1 183 (by decide) (by decide)]
      by_cases ci : i < 0
      · rw [if_pos ci] at h' ⊢; exact h'
      · rw [if_neg ci] at h' ⊢; exact ⟨v48, h'⟩⟩)
    have wst1 : WST z 1 (exX M A' 1) N1 s := WST_ef hW EFX_ex fq (exX_0 (by decide)) exX_45
    by_cases ci : i < 0 ∨ N 183 (N 205 k) ≤ i
    · have fx1 : EFX M (up_ (exX M A' 1) 0 49 1) := EFX_tr EFX_ex (EFX_up (by decide))
      refine .inr ⟨1, up_ (exX M A' 1) 0 49 1, N1, by decide, xw_e2 (by (clear hW hT hk hc hfe h203 hv h183 hE0 hx0 hx01 hE hx hx1 b1 w1 w2 w3 w4 w5 w6 n12 hB v48 x1 q1 e149 fq ev rv q0 wst1 ci fx1; omega)) x1 (fun Qr Qt g => t_24 fun V hV hW => b_24_0 (Tr_mono _) hV hW _ _ ⟨by (clear hT hk hfe h203 hv h183 hE0 hx0 hx01 hE hx hx1 w1 w2 w3 w4 w5 w6 n12 hB v48 x1 q1 e149 fq ev rv q0 wst1 ci fx1 g hV hW; omega), ?_⟩), ⟨up_at, by rw [upo (by decide), exX_0 (by decide)]⟩, q0 1 N1 (fun V Qr Qt hV hW g => ?_), RU_ef w1 fx1 fq, TYA_ef w3 fq, ⟨XRF_ef fx1, QRF_ef fq⟩, by rw [upo (by decide), exX_0 (by decide)], by rw [upo (by decide), exX_0 (by decide)]⟩
      · rw [exX_r (r := 109) (by decide) (by decide), hx0]; simp only [Int.reduceEq, if_true, if_false]
        rw [exX_45, exX_26, show w32 (0 + 1 - 1) = 0 from w32_id (by decide) (by decide), ev]
        have fl : Tr_ wd0 pg0 6 19 [.inr (.inr 0), .inl 1] (exX M A' (0 + 1)) (rf_r fun v22 M30 => if v22 = 1999 then False else Qt v22 M30) Qt := Ex_le (d := 1) (by decide) x_19 _ _ (rf_i (by rw [if_neg (by decide)]; exact g))
        refine ⟨by decide, ?_⟩
        by_cases c2 : i < 0
        · rw [if_pos c2]; exact fl
        · rw [if_neg c2, w32_id (x := c0 + 1) (by (clear hT hk hc hfe h203 hv h183 hE0 hx0 hx01 hE hx hx1 b0 w1 w2 w3 w4 w5 w6 n12 hB v48 x1 q1 e149 fq ev rv q0 wst1 ci fx1 g hV hW fl c2; omega)) (by (clear hT hk hfe h203 hv h183 hE0 hx0 hx01 hE hx hx1 b0 w1 w2 w3 w4 w5 w6 n12 hB v48 x1 q1 e149 fq ev rv q0 wst1 ci fx1 g hV hW fl c2; omega)), hx01, if_neg (by (clear hT hk hc hfe h203 hv h183 hE0 hx0 hE hx hx1 b0 b1 w1 w2 w3 w4 w5 w6 n12 hB v48 x1 q1 e149 fq ev rv q0 wst1 fx1 g hV hW fl; omega))]
          exact ⟨by decide, by (clear hT hk hfe h203 hv h183 hE0 hx0 hx01 hE hx hx1 w1 w2 w3 w4 w5 w6 n12 hB v48 x1 q1 e149 fq ev rv q0 wst1 ci fx1 g hV hW fl c2; omega), fl⟩
      · by_cases c2 : i < 0
        · rw [if_pos c2]; exact g
        · rw [if_neg c2, if_neg (by omega)]; exact g
    · have r1 : RC 7 m_23 17 [rr 0, ii s, ii x2, ii c] M 17 [rr 0, ii s, ii x2, ii (c0 + 2)] (exX M A' 1) := xw_go (by omega) x1 (fun Qr Qt g => t_24 fun V hV hW => b_24_0 (Tr_mono _) hV hW _ _ ⟨by omega, by
        rw [exX_r (r := 109) (by decide) (by decide), hx0]; simp only [Int.reduceEq, if_true, if_false]
        rw [exX_45, exX_26, show w32 (0 + 1 - 1) = 0 from w32_id (by decide) (by decide), ev, if_neg (by (clear hT hk hc hfe h203 hv h183 hE0 hx0 hx01 hE hx hx1 b0 b1 w1 w2 w3 w4 w5 w6 n12 hB v48 x1 q1 e149 fq ev rv q0 wst1 g hV hW; omega)), w32_id (x := c0 + 1) (by omega) (by omega), hx01, if_pos (by (clear hT hk hc hfe h203 hv h183 hE0 hx0 hE hx hx1 b0 b1 w1 w2 w3 w4 w5 w6 n12 hB v48 x1 q1 e149 fq ev rv q0 wst1 g hV hW; omega)), w32_id (x := c0 + 2) (by omega) (by (clear hT hk hfe h203 hv h183 hE0 hx0 hx01 hE hx hx1 b0 w1 w2 w3 w4 w5 w6 n12 hB v48 x1 q1 e149 fq ev rv q0 wst1 ci g hV hW; omega))]
        exact ⟨by decide, by decide, by omega, g⟩⟩)
      have sw1 : swc (exX M A' 1) = swc M := swc_e (XRF_ef EFX_ex)
      have tb1 : tbN N1 = tbN N := tbN_e (QRF_ef fq)
      have m109 : exX M A' 1 109 = M 109 := exX_r (by decide) (by decide)
      rcases ev_w (T := T) (t := N 182 (N 205 k)) (fe := fe) (c := c0 + 2) (c1 := c1) (f := N 207 k) wst1 (by decide) (by rw [exX_r (by decide) (by decide)]; exact hT) (by rw [sw1, tb1]; exact hE) (by omega) hfe (by rw [m109]; omega) with ⟨A2, val, N2, x3, q3, e1492, fq2, ev2, rv2, lo2⟩ | ⟨e, M3, N3, v3, he, x3, fx3, kp3, e493, q3, e1493, fq3⟩
      · have a0 : A2 0 = i := by rw [lo2 0 (by decide), exX_26]; exact ev
        have fx2 : EFX M (exX (exX M A' 1) A2 0) := EFX_tr EFX_ex EFX_ex
        have e4 : ∀ j, j ≠ 45 → exX (exX M A' 1) A2 0 0 j = M 0 j := fun j hj => by rw [exX_0 hj, exX_0 hj]
        obtain ⟨l1, l2, l3, l4, l5, l6, l7, l8⟩ := as_l (i := i) (val := val) hW hT fx2 (EFQ_tr fq fq2) (by rw [e4 46 (by decide)]; exact w5) exX_45 (e4 47 (by decide)) hv (by split <;> (clear hW hT hk hc hfe h203 hv hE0 hx0 hE hx hx1 b0 b1 w1 w2 w3 w4 w5 w6 n12 hB v48 x1 q1 e149 fq ev rv q0 wst1 r1 sw1 tb1 m109 x3 q3 e1492 fq2 ev2 rv2 lo2 fx2 e4; omega)) rv2
        refine .inl ⟨_, _, RC_tr r1 (xw_go (by (clear hW hT hk hc hfe h203 hv h183 hE0 hx0 hx01 hE hx hx1 b0 w1 w2 w3 w4 w5 w6 n12 hB v48 x1 q1 e149 fq ev rv q0 wst1 ci r1 sw1 tb1 m109 x3 q3 e1492 fq2 ev2 rv2 lo2 a0 fx2 e4 l1 l2 l3 l4 l5 l6 l7 l8; omega)) x3 (fun Qr Qt g => t_24 fun V hV hW => b_24_0 (Tr_mono _) hV hW _ _ ⟨by (clear hT hk hfe h203 hv h183 hE0 hx0 hx01 hE hx hx1 b0 w1 w2 w3 w4 w5 w6 n12 hB v48 x1 q1 e149 fq ev rv q0 wst1 ci r1 sw1 tb1 m109 x3 q3 e1492 fq2 ev2 rv2 lo2 a0 fx2 e4 l1 l2 l3 l4 l5 l6 l7 l8 g hV hW; omega), ?_⟩)), q0 0 _ (fun V Qr Qt hV hW g => ?_), l1, l2, l3, l4, l5⟩
        · rw [exX_r (r := 109) (by decide) (by decide), m109, hx]; simp only [Int.reduceEq, if_true, if_false]
          have p1 := x_18 (M := exX M A' 1) (A := A2) (n := 1 + 1) (by decide)
          have p2 := x_18 (M := exX M A' 1) (A := A2) (n := 1) (by decide)
          rw [show (1 : Int) + 1 - 1 = 1 from rfl, ev2] at p1
          rw [show (1 : Int) - 1 = 0 from rfl, a0] at p2
          refine Ex_le (d := 1) (by decide) p1 _ _ (ri_i ⟨by rw [w32_id (x := c1 + 1) (by (clear hT hk hc hfe h203 hv h183 hE0 hx0 hx01 hE hx hx1 b0 w1 w2 w3 w4 w5 w6 n12 hB v48 x1 q1 e149 fq ev rv q0 wst1 ci r1 sw1 tb1 m109 x3 q3 e1492 fq2 ev2 rv2 lo2 a0 fx2 e4 l1 l2 l3 l4 l5 l6 l7 l8 g hV hW p1 p2; omega)) (by omega)]; (clear hT hk hfe h203 hv h183 hE0 hx0 hx01 hE hx hx1 b0 w1 w2 w3 w4 w5 w6 n12 hB v48 x1 q1 e149 fq ev rv q0 wst1 ci r1 sw1 tb1 m109 x3 q3 e1492 fq2 ev2 rv2 lo2 a0 fx2 e4 l1 l2 l3 l4 l5 l6 l7 l8 g hV hW p1 p2; omega), Ex_le (d := 1) (by decide) p2 _ _ (ri_i ?_)⟩)
          rw [exX_r (r := 109) (by decide) (by decide), m109, w32_id (x := c1 + 1) (by omega) (by omega), hx1, exX_0 (i := 46) (by decide), exX_0 (i := 46) (by decide), w5, w32_id (x := 16 * s) (by (clear hT hk hc hfe h203 hv h183 hE0 hx0 hx01 hE hx hx1 b0 b1 w1 w2 w3 w6 n12 hB v48 x1 q1 e149 fq ev rv q0 wst1 ci r1 sw1 tb1 m109 x3 q3 e1492 fq2 ev2 rv2 lo2 a0 fx2 e4 l1 l2 l3 l4 l5 l6 l7 l8 g hV hW p1 p2; lia)) (by (clear hT hk hc hfe h203 hv h183 hE0 hx0 hx01 hE hx hx1 b0 b1 w1 w2 w3 w6 hB v48 x1 q1 e149 fq ev rv q0 wst1 ci r1 sw1 tb1 m109 x3 q3 e1492 fq2 ev2 rv2 lo2 a0 fx2 e4 l1 l2 l3 l4 l5 l6 l7 l8 g hV hW p1 p2; omega)), w32_id (x := 16 * s + N 184 (N 205 k)) (by (clear hT hk hc hfe h203 hv h183 hE0 hx0 hx01 hE hx hx1 b0 b1 w1 w2 w3 w6 n12 hB v48 x1 q1 e149 fq ev rv q0 wst1 ci r1 sw1 tb1 m109 x3 q3 e1492 fq2 ev2 rv2 lo2 a0 fx2 e4 l1 l2 l3 l4 l5 l6 l7 g hV hW p1 p2; omega)) (by (clear hT hk hc hfe h203 hv h183 hE0 hx0 hx01 hE hx hx1 b0 b1 w1 w2 w3 w6 hB v48 x1 q1 e149 fq ev rv q0 wst1 r1 sw1 tb1 m109 x3 q3 e1492 fq2 ev2 rv2 lo2 fx2 e4 l1 l2 l3 l4 l5 l7 l8 g hV hW p1 p2; omega)), w32_id (x := 16 * s + N 184 (N 205 k) + i) (by (clear hT hk hc hfe h203 hv h183 hE0 hx0 hx01 hE hx hx1 b0 b1 w1 w2 w3 w6 n12 hB v48 x1 q1 e149 fq ev rv q0 wst1 ci r1 sw1 tb1 m109 x3 q3 e1492 fq2 ev2 rv2 lo2 fx2 e4 l1 l2 l3 l4 l5 l7 l8 g hV hW p1 p2; omega)) (by (clear hT hk hc hfe h203 hv h183 hE0 hx0 hx01 hE hx hx1 b0 b1 w1 w2 w3 w6 hB v48 x1 q1 e149 fq ev rv q0 wst1 ci r1 sw1 tb1 m109 x3 q3 e1492 fq2 ev2 rv2 lo2 fx2 e4 l1 l2 l3 l4 l5 l7 l8 g hV hW p1 p2; lia)), w32_id (x := c1 + 2) (by (clear hT hk hc hfe h203 hv h183 hE0 hx0 hx01 hE hx hx1 b0 w1 w2 w3 w4 w5 w6 n12 hB v48 x1 q1 e149 fq ev rv q0 wst1 ci r1 sw1 tb1 m109 x3 q3 e1492 fq2 ev2 rv2 lo2 a0 fx2 e4 l1 l2 l3 l4 l5 l6 l7 l8 g hV hW p1 p2; omega)) (by omega), Int.add_assoc (16 * s)]
          exact ⟨by (clear hT hk hc hfe h203 hv h183 hE0 hx0 hx01 hE hx hx1 b0 b1 w1 w2 w3 w6 hB v48 x1 q1 e149 fq ev rv q0 wst1 ci r1 sw1 tb1 m109 x3 q3 e1492 fq2 ev2 rv2 lo2 fx2 e4 l1 l2 l3 l4 l5 l7 l8 g hV hW p1 p2; lia), g⟩
        · rw [if_neg (by (clear hT hk hc hfe h203 hv h183 hE0 hx0 hx01 hE hx hx1 b0 b1 w1 w2 w3 w4 w5 w6 n12 hB v48 x1 q1 e149 fq ev rv q0 wst1 r1 sw1 tb1 m109 x3 q3 e1492 fq2 ev2 rv2 lo2 fx2 e4 l1 l2 l3 l4 l5 l6 l7 l8 hV hW g; omega)), if_pos (by (clear hT hk hc hfe h203 hv h183 hE0 hx0 hE hx hx1 b0 b1 w1 w2 w3 w4 w5 w6 n12 hB v48 x1 q1 e149 fq ev rv q0 wst1 r1 sw1 tb1 m109 x3 q3 e1492 fq2 ev2 rv2 lo2 fx2 e4 l1 l2 l3 l4 l5 l6 l7 l8 hV hW g; omega))]
          refine b_351_62 (Tr_mono _) hV hW _ _ _ _ _ ⟨hk, ?_⟩
          rw [fq.1 207 (by decide) (by decide)]
          refine q3 _ _ (ri_i ?_)
          rw [e1492, if_pos (by decide)]
          refine Ex_le (d := 1) (by decide) (q_323 (by (clear hT hk hc hfe h203 hv h183 hE0 hx0 hx01 hE hx hx1 b0 b1 w1 w2 w3 w6 hB v48 x1 q1 e149 fq ev rv q0 wst1 ci r1 sw1 tb1 m109 x3 q3 e1492 fq2 ev2 rv2 lo2 a0 fx2 e4 l1 l2 l3 l4 l5 l6 l7 l8 hV hW g; omega))) _ _ (ri_i ?_)
          rw [fq2.1 184 (by decide) (by decide), fq.1 184 (by decide) (by decide), w32_id (x := sB s + 6) (by (clear hT hk hc hfe h203 hv h183 hE0 hx0 hx01 hE hx hx1 b0 b1 w1 w2 w3 w6 n12 v48 x1 q1 e149 fq ev rv q0 wst1 ci r1 sw1 tb1 m109 x3 q3 e1492 fq2 ev2 rv2 lo2 a0 fx2 e4 l1 l2 l3 l4 l5 l6 l7 l8 hV hW g; omega)) (by omega), w32_id (x := sB s + 6 + N 184 (N 205 k)) (by (clear hT hk hc hfe h203 hv h183 hE0 hx0 hx01 hE hx hx1 b0 b1 w1 w2 w3 w6 n12 v48 x1 q1 e149 fq ev rv q0 wst1 ci r1 sw1 tb1 m109 x3 q3 e1492 fq2 ev2 rv2 lo2 a0 fx2 e4 l1 l2 l3 l4 l5 l6 l7 hV hW g; lia)) (by (clear hT hk hc hfe h203 hv h183 hE0 hx0 hx01 hE hx hx1 b0 b1 w1 w2 w3 w6 v48 x1 q1 e149 fq ev rv q0 wst1 r1 sw1 tb1 m109 x3 q3 e1492 fq2 ev2 rv2 lo2 fx2 e4 l1 l2 l3 l4 l5 l7 l8 hV hW g; lia)), w32_id (x := sB s + 6 + N 184 (N 205 k) + i) (by (clear hT hk hc hfe h203 hv h183 hE0 hx0 hx01 hE hx hx1 b0 b1 w1 w2 w3 w6 n12 v48 x1 q1 e149 fq ev rv q0 wst1 ci r1 sw1 tb1 m109 x3 q3 e1492 fq2 ev2 rv2 lo2 fx2 e4 l1 l2 l3 l4 l5 l7 l8 hV hW g; omega)) (by (clear hT hk hc hfe h203 hv h183 hE0 hx0 hx01 hE hx hx1 b0 b1 w1 w2 w3 w6 v48 x1 q1 e149 fq ev rv q0 wst1 ci r1 sw1 tb1 m109 x3 q3 e1492 fq2 ev2 rv2 lo2 fx2 e4 l1 l2 l3 l4 l5 l7 l8 hV hW g; omega)), Int.add_assoc (sB s + 6)]
          exact ⟨l7, by (clear hT hk hc hfe h203 hv h183 hE0 hx0 hx01 hE hx hx1 b0 b1 w1 w2 w3 w6 v48 x1 q1 e149 fq ev rv q0 wst1 ci r1 sw1 tb1 m109 x3 q3 e1492 fq2 ev2 rv2 lo2 fx2 e4 l1 l2 l3 l4 l5 l7 l8 hV hW g; omega), g⟩
      · have fx4 : EFX M M3 := EFX_tr EFX_ex fx3
        have xh := xw_e1 (s := s) (x2 := x2) (by (clear hW hT hk hc hfe h203 hv h183 hE0 hx0 hx01 hE hx hx1 b0 w1 w2 w3 w4 w5 w6 n12 hB v48 x1 q1 e149 fq ev rv q0 wst1 ci r1 sw1 tb1 m109 he x3 fx3 kp3 e493 q3 e1493 fq3 fx4; omega)) x3
        refine .inr ⟨e, M3, N3, by (clear hW hT hk hc hfe h203 hv h183 hE0 hx0 hx01 hE hx hx1 b0 b1 w1 w2 w3 w4 w5 w6 n12 hB v48 x1 q1 e149 fq ev rv q0 wst1 ci r1 sw1 tb1 m109 x3 fx3 kp3 e493 q3 fq3 fx4 xh; omega), fun V Qr Qt hV hW g => r1 V Qr Qt hV hW (xh V Qr Qt hV hW g), ⟨e493, by rw [kp3.2, exX_0 (by decide)]⟩, q0 e N3 (fun V Qr Qt hV hW g => ?_), RU_ef w1 fx4 (EFQ_tr fq fq3), TYA_ef w3 (EFQ_tr fq fq3), ⟨XRF_ef fx4, QRF_ef (EFQ_tr fq fq3)⟩, fx4.2 7 (by decide) (by decide) (by decide) (by decide) (by decide), fx4.2 8 (by decide) (by decide) (by decide) (by decide) (by decide)⟩
        rw [if_neg (by (clear hT hk hc hfe h203 hv h183 hE0 hx0 hx01 hE hx hx1 b0 b1 w1 w2 w3 w4 w5 w6 n12 hB v48 x1 q1 e149 fq ev rv q0 wst1 r1 sw1 tb1 m109 he x3 fx3 kp3 e493 q3 e1493 fq3 fx4 xh hV hW g; omega)), if_pos (by (clear hT hk hc hfe h203 hv h183 hE0 hx0 hE hx hx1 b0 b1 w1 w2 w3 w4 w5 w6 n12 hB v48 x1 q1 e149 fq ev rv q0 wst1 r1 sw1 tb1 m109 he x3 fx3 kp3 e493 q3 e1493 fq3 fx4 xh hV hW g; omega))]
        refine b_351_62 (Tr_mono _) hV hW _ _ _ _ _ ⟨hk, ?_⟩
        rw [fq.1 207 (by decide) (by decide)]
        refine q3 _ _ (ri_i ?_)
        rw [e1493, if_neg (by (clear hT hk hc hfe h203 hv h183 hE0 hx0 hx01 hE hx hx1 b0 b1 w1 w2 w3 w4 w5 w6 n12 hB v48 x1 q1 e149 fq ev rv q0 wst1 ci r1 sw1 tb1 m109 x3 fx3 kp3 e493 q3 fq3 fx4 xh hV hW g; omega))]; exact g
  · refine bo_e hW x1 (by omega) he fx kp e49 fq (q_351 (by (clear hW hT hk hc hfe h203 hv h183 hE0 hx0 hx01 hE hx hx1 b0 b1 w1 w2 w3 w6 hB v48 he x1 fx kp e49 q1 e149 fq; lia)) hk h203 (fun Qr Qt g => t_351 fun V hV hW => b_351_0 (Tr_mono _) hV hW _ _ _ ⟨hk, hk, ?_⟩))
    rw [if_neg (by (clear hT hk hc hfe h203 hv h183 hE0 hx0 hx01 hE hx hx1 b1 w1 w2 w3 w4 w5 w6 n12 hB v48 he x1 fx kp e49 q1 e149 fq g hV hW; omega))]
    refine ⟨hk, q1 _ _ (ri_i ?_)⟩
    rw [e149, if_neg (by (clear hT hk hc hfe h203 hv h183 hE0 hx0 hx01 hE hx hx1 b0 b1 w1 w2 w3 w4 w5 w6 n12 hB v48 x1 fx kp e49 q1 fq g hV hW; omega))]; exact g
end ASa
end T356_as

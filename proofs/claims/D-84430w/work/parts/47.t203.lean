section T203_ip
/-! INPUT: its ins (X 168 V 8 | Q 306 V 9) -/
def ilT (κ : Int → Int) (a : Int) : Option (Int ⊕ Int) := (inS κ a).bind fun a1 => if κ a1 = 244 then (gS a1).bind fun a2 => some (.inl a2) else some (.inr a1)
def IL (κ : Int → Int) (a : Int) : Option Int := LPz (ilT κ) a
section ILs
variable {κ : Int → Int} {a : Int}
theorem IV_s [Inhabited gh_] {s r : Int × Int} {x : Int} (h0 : 0 ≤ s.1) (h1 : s.1 ≤ 1200) (h : IV κ s = some x) : s.1 ≤ x ∧ x ≤ 1200 := by
  refine lpS_r (step := ivT κ) (fun s => s.1) (fun s s' => ivT_l s s') (fun s a h0 h1 h => ?_) 1300 s x h0 h1 h
  unfold ivT at h
  cases e : gS s.1 with
  | none => rw [e] at h; exact absurd h (by simp only [Option.bind_none]; intro x; cases x)
  | some a1 =>
    rw [e, Option.bind_some] at h
    have g := gS_s e
    by_cases c3 : s.2 = 3
    · rw [if_pos c3] at h; cases h
    · rw [if_neg c3] at h
      cases e2 : tS κ 100 a1 with
      | none => rw [e2] at h; exact absurd h (by simp only [Option.bind_none]; intro x; cases x)
      | some a2 =>
        rw [e2, Option.bind_some] at h
        have t := tS_s e2
        by_cases c : κ a2 = 244
        · rw [if_pos c] at h; injection h with h; cases h
        · rw [if_neg c] at h
          cases e3 : tS κ 241 a2 with
          | none => rw [e3] at h; exact absurd h (by simp only [Option.bind_none]; intro x; cases x)
          | some a3 =>
            rw [e3, Option.bind_some] at h; injection h with h; injection h with h
            have t3 := tS_s e3
            omega
theorem inS_s [Inhabited gh_] {x : Int} (h0 : 0 ≤ a) (h1 : a ≤ 1200) (h : inS κ a = some x) : a + 1 ≤ x ∧ x ≤ 1200 := by
  unfold inS at h
  by_cases c : κ a = 242
  · rw [if_pos c] at h; have := gS_s h; (clear h c; omega)
  · rw [if_neg c] at h
    cases e : tS κ 100 a with
    | none => rw [e] at h; exact absurd h (by simp only [Option.bind_none]; intro x; cases x)
    | some a1 =>
      rw [e, Option.bind_some] at h
      have t := tS_s e
      by_cases c2 : κ a1 = 240
      · rw [if_pos c2] at h
        have := IV_s (s := (a1, 0)) (r := (0, 0)) (show (0 : Int) ≤ a1 by (clear c h e c2; lia)) (show a1 ≤ 1200 by omega) h
        have : a1 ≤ x := this.1
        omega
      · rw [if_neg c2] at h; injection h with h; omega
theorem ilT_y [Inhabited gh_] {L : Int → Option Int} {X : Option Int} (hX : inS κ a = X) : (ilT κ a).bind (lk8_ L) = X.bind fun a1 => if κ a1 = 244 then (gS a1).bind L else some a1 := by
  unfold ilT
  rw [hX]
  cases X with
  | none => rfl
  | some a1 =>
    rw [Option.bind_some, Option.bind_some]
    by_cases c : κ a1 = 244
    · rw [if_pos c, if_pos c]
      cases gS a1 with
      | none => rfl
      | some a2 => rfl
    · rw [if_neg c, if_neg c]; rfl
theorem ilT_l [Inhabited gh_] (s s' : Int) (h0 : 0 ≤ s) (h1 : s ≤ 1200) (h : ilT κ s = some (.inl s')) : s + 1 ≤ s' ∧ s' ≤ 1200 := by
  unfold ilT at h
  cases e : inS κ s with
  | none => rw [e] at h; exact absurd h (by simp only [Option.bind_none]; intro x; cases x)
  | some a1 =>
    rw [e, Option.bind_some] at h
    have t := inS_s h0 h1 e
    by_cases c : κ a1 = 244
    · rw [if_pos c] at h
      cases e2 : gS a1 with
      | none => rw [e2] at h; exact absurd h (by simp only [Option.bind_none]; intro x; cases x)
      | some a2 =>
        rw [e2, Option.bind_some] at h
        have g := gS_s e2
        injection h with h; injection h with h
        omega
    · rw [if_neg c] at h
      injection h with h; cases h
theorem IL_e [Inhabited gh_] (h0 : 0 ≤ a) (h1 : a ≤ 1200) : IL κ a = (inS κ a).bind fun a1 => if κ a1 = 244 then (gS a1).bind (IL κ) else some a1 := (LP_u (step := ilT κ) (fun s => s) (fun s s' => ilT_l s s') (s := a) h0 h1).trans (ilT_y rfl)
end ILs
/-- Q at an in of an input -/
def q06 (dq : Nat) (mask k x3 : Int) (N : mm_) (G : mm_ → Prop) (Qt : qt_) : Prop := ∀ V : vv_, Cl_ wd0 (Tr_ wd0 pg0 (dq + 16)) V (rv_ G) Qt m_306 → Wk_ V → V 9 [rr 6, ii mask, ii k, ii x3] [] N
/-- X behind an in -/
def z168 (V : vv_) (Qt : qt_) (x1 : Int) (M2 : mm_) : Prop := Tr_ wd0 pg0 128 117 [.inr (.inr 1), .inl 44] M2 (ri_ fun v1 M3 =>
    (if v1 = 0 then
     Tr_ wd0 pg0 128 103 [.inr (.inr 1), .inl 26] M3 (ri_ fun v2 M4 =>
      (if v2 = 0 then
       V 52 [rr 1, ii x1, ii ((-1)), none, none] [] M4
      else
       Tr_ wd0 pg0 128 105 [.inr (.inr 1)] M4 (rv_ fun M5 =>
        M5 1 2 = 5 ∧
         Tr_ wd0 pg0 128 174 [.inr (.inr 1)] M5 (rv_ fun M6 =>
         V 52 [rr 1, ii x1, ii (M5 5 3), none, none] [] M6) Qt) Qt)) Qt
    else
     V 8 [rr 1, ii x1, none, none, none] [] M3)) Qt
section IQ
variable {dq : Nat} {b F : Int} {mask k f : Int} {Kv : mm_ → Prop} {Qt : qt_} {V : vv_}
theorem q74_s [Inhabited gh_] {V' : vv_} {G : mm_ → Prop} {Qtq : qt_} {N : mm_} {x3 : Int} (hV : Cl_ wd0 (Tr_ wd0 pg0 (dq + 16)) V' (rv_ G) Qtq m_306) (hW : Wk_ V') (hs : sp_ N) (h : G N) : V' 74 [rr 6, ii mask, ii k, ii x3] [] N := b_306_74 (Tr_mono _) hV hW _ _ _ _ (q_244s hs (q_227s hs (by rw [if_neg (by decide)]; exact q_260z hs (rv_i h))))
theorem q37_s [Inhabited gh_] {V' : vv_} {G : mm_ → Prop} {Qtq : qt_} {N : mm_} {x3 : Int} (hV : Cl_ wd0 (Tr_ wd0 pg0 (dq + 16)) V' (rv_ G) Qtq m_306) (hW : Wk_ V') (hs : sp_ N) (h : G N) : V' 37 [rr 6, ii mask, ii k, ii x3] [] N := b_306_37 (Tr_mono _) hV hW _ _ _ _ (q_227s hs (by
  rw [if_neg (by decide)]
  exact q_228s hs (by rw [if_pos rfl]; exact q74_s hV hW hs h)))
theorem q9_s [Inhabited gh_] {V' : vv_} {G : mm_ → Prop} {Qtq : qt_} {N : mm_} {x3 : Int} (hV : Cl_ wd0 (Tr_ wd0 pg0 (dq + 16)) V' (rv_ G) Qtq m_306) (hW : Wk_ V') (hs : sp_ N) (h : G N) : V' 9 [rr 6, ii mask, ii k, ii x3] [] N := by
  refine b_306_9 (Tr_mono _) hV hW _ _ _ _ ?_
  by_cases c : x3 = 0
  · rw [if_pos c]; exact q37_s hV hW hs h
  · rw [if_neg c]; exact q_227s hs (by rw [if_neg (by decide)]; exact q37_s hV hW hs h)
theorem l_168 [Inhabited gh_] (hV : Cl_ wd0 (Tr_ wd0 pg0 128) V (rv_ Kv) Qt m_168) (hW : Wk_ V) :
    ∀ (n : Nat) (a : Int) (M N : mm_), 1201 - a ≤ (n : Int) → SL b F M N a mask (-1) 0 → (b = 1 → IL (M 70) a ≠ none) →
    (∀ M' N' a', SL b F M' N' a' mask 0 0 → a + 1 ≤ a' → SLG b 0 M N M' N' → M' 70 a' ≠ 244 → IL (M 70) a = some a' → (∀ (G : mm_ → Prop) (Qtq : qt_), q06 dq mask k 0 N' G Qtq → q06 dq mask k 1 N G Qtq) → z168 V Qt f M') →
    (b = 0 → ∀ Mx', XSb M Mx' → (∀ (G : mm_ → Prop) (Qtq : qt_), (∀ M', SQb Mx' N M' → G M') → q06 dq mask k 1 N G Qtq) → Qt 8 Mx') →
    Tr_ wd0 pg0 128 169 [.inr (.inr 1)] M (rv_ (z168 V Qt f)) Qt
  | 0, a, M, N, hn, h, _, _, _ => by have := ER_a (TS_E h.1); omega
  | n + 1, a, M, N, hn, h, hS, hK, hQ => by
    have hE := TS_E h.1
    have ha := ER_a hE
    rw [IL_e ha.1 ha.2] at hS hK
    have q8 : ∀ (G : mm_ → Prop) (Qtq : qt_), (∀ V' : vv_, Cl_ wd0 (Tr_ wd0 pg0 (dq + 16)) V' (rv_ G) Qtq m_306 → Wk_ V' → Tr_ wd0 pg0 (dq + 16) 308 [.inr (.inr 6), .inl k, .inl mask, .inl 1] N (rv_ fun M2 => Tr_ wd0 pg0 (dq + 16) 242 [.inr (.inr 6), .inl 44] M2 (ri_ fun v2 M3 => V' 9 [rr 6, ii mask, ii k, ii v2] [] M3) Qtq) Qtq) → q06 dq mask k 1 N G Qtq := fun G Qtq hq V' hV' hW' => by
      refine b_306_9 (Tr_mono _) hV' hW' _ _ _ _ ?_
      rw [if_neg (by decide)]
      refine q_227g (ER_goq hE) ?_
      rw [if_pos rfl]
      exact hq V' hV' hW'
    refine y_169 (dq := dq) (k := k) h (by decide) (fun hb => bind_n (hS hb)) (fun M1 N1 a1 S1 ha1 G1 hsy hq1 => ?_) (fun hb Mx' hx hq => ?_)
    rotate_left
    · exact hQ hb Mx' hx (fun G Qtq hg => q8 G Qtq fun V' hV' hW' => hq _ _ fun M' p => q_242s p.1 (q9_s hV' hW' p.1 (hg _ p)))
    rw [show (-1 : Int) + 1 = 0 by decide] at S1
    rw [hsy, Option.bind_some] at hS hK
    have hE1 := TS_E S1.1
    have hT1 := S1.1.1.1
    have x70 : M1 70 = M 70 := G1.1.1 70 (by decide)
    have q9 : ∀ (G : mm_ → Prop) (Qtq : qt_), (∀ V' : vv_, Cl_ wd0 (Tr_ wd0 pg0 (dq + 16)) V' (rv_ G) Qtq m_306 → Wk_ V' → Tr_ wd0 pg0 (dq + 16) 242 [.inr (.inr 6), .inl 44] N1 (ri_ fun v2 M3 => V' 9 [rr 6, ii mask, ii k, ii v2] [] M3) Qtq) → q06 dq mask k 1 N G Qtq := fun G Qtq hq => q8 G Qtq fun V' hV' hW' => hq1 _ _ (hq V' hV' hW')
    by_cases c : M1 70 a1 = 244
    · have c' : M 70 a1 = 244 := by rw [← x70]; exact c
      rw [if_pos c'] at hS hK
      unfold z168
      refine y_117 hE1 (by decide) (fun _ => ?_) (fun c2 => absurd c c2)
      rw [if_neg (by decide)]
      refine b_168_8 (Tr_mono _) hV hW _ _ ?_
      refine y_105 hE1 (by rw [c]; decide) (fun hb => bind_n (hS hb)) (fun h12 hE2 => ?_) (fun hb h12 => ?_)
      · rw [gS_e h12, Option.bind_some] at hS hK
        have S2 := SL_go S1 hE2
        rw [show (0 : Int) - 1 = -1 by decide] at S2
        have y70 : nX_ M1 70 = M 70 := by rw [nX_ne (by decide)]; exact x70
        have q10 : ∀ (G : mm_ → Prop) (Qtq : qt_), q06 dq mask k 1 (nx_ N1) G Qtq → q06 dq mask k 1 N G Qtq := fun G Qtq hq => q9 G Qtq fun V' hV' hW' => j_242t hT1 hE1 (by decide) c h12 (hq V' hV' hW')
        have G2 : SLG b 0 M N (nX_ M1) (nx_ N1) := SLG_tr G1 SLG_go
        refine l_168 hV hW n (a1 + 1) (nX_ M1) (nx_ N1) (by omega) S2 (by rw [y70]; exact hS) (fun M' N' a' S' ha' G' h44 hsy' hq' => ?_) (fun hb Mx' hx hq => ?_)
        · rw [y70] at hsy'
          exact hK M' N' a' S' (by (clear hV hW hn h hQ hE ha q8 hK hS S1 G1 hsy hq1 hE1 hT1 x70 q9 c c' h12 hE2 S2 y70 q10 G2 S' G' h44 hsy' hq'; omega)) (SLG_tr G2 G') h44 hsy' (fun G Qtq hg => q10 G Qtq (hq' G Qtq hg))
        · exact hQ hb Mx' (XSb_tr (SLG_XSb G2) hx) (fun G Qtq hg => q10 G Qtq (hq G Qtq fun M' p => hg _ ⟨p.1, p.2.1, p.2.2.1, p.2.2.2.1, QSb_tr (SLG_QSb G2) p.2.2.2.2⟩))
      · have hsp := SQ_bf hE1 hb (k := 2) (by decide) QA_rf
        refine hQ hb _ (XSb_tr (SLG_XSb G1) (XA_XSb (XF_XA fl_XF))) (fun G Qtq hg => q9 G Qtq fun V' hV' hW' => j_242r hT1 hE1 hb (by decide) c h12 ?_)
        exact q9_s hV' hW' hsp.1 (hg _ ⟨hsp.1, hsp.2.1, hsp.2.2.1, hsp.2.2.2.1, QSb_tr (SLG_QSb G1) (QA_QSb hsp.2.2.2.2)⟩)
    · have c' : ¬ M 70 a1 = 244 := by rw [← x70]; exact c
      rw [if_neg c'] at hK
      exact hK M1 N1 a1 S1 (by omega) G1 c rfl (fun G Qtq hq => q9 G Qtq fun V' hV' hW' => j_242f hT1 hE1 (by decide) c (hq V' hV' hW'))
end IQ
end T203_ip
section T204_ip
/-! INPUT: from its semicolon on (X 168 V 52 | Q 306 V 74) -/
/-- n of X's stims from f on get their e and their trans -/
def xiF (e c : Int) : Nat → Int → mm_ → mm_
  | 0, _, M => M
  | n + 1, f, M => xiF e c n (f + 1) (up_ (up_ M 139 f e) 141 f c)
section IT
variable {d dq : Nat} {b F F' : Int} {Mx Mq M N M1 N1 : mm_} {a a' mask k c e f ee i v : Int} {Kv G : mm_ → Prop} {Qt : qt_} {V : vv_}
theorem xiF_r [Inhabited gh_] {r : Nat} (h1 : r ≠ 139) (h2 : r ≠ 141) : ∀ (n : Nat) (f : Int) (M : mm_), xiF e c n f M r = M r
  | 0, _, _ => rfl
  | n + 1, f, M => by
    show xiF e c n (f + 1) (up_ (up_ M 139 f e) 141 f c) r = M r
    rw [xiF_r h1 h2 n, up_ne h2, up_ne h1]
theorem xiF_9 [Inhabited gh_] : ∀ (n : Nat) (f : Int) (M : mm_) (x : Int), xiF e c n f M 139 x = (if f ≤ x ∧ x < f + n then e else M 139 x) ∧ xiF e c n f M 141 x = (if f ≤ x ∧ x < f + n then c else M 141 x)
  | 0, f, M, x => by
    rw [if_neg (by omega), if_neg (by omega)]; exact ⟨rfl, rfl⟩
  | n + 1, f, M, x => by
    have r := xiF_9 n (f + 1) (up_ (up_ M 139 f e) 141 f c) x
    have e1 : xiF e c (n + 1) f M = xiF e c n (f + 1) (up_ (up_ M 139 f e) 141 f c) := rfl
    rw [e1, r.1, r.2]
    by_cases c0 : x = f
    · have n1 : ¬ (f + 1 ≤ x ∧ x < f + 1 + n) := by (clear r e1; omega)
      have p1 : f ≤ x ∧ x < f + ((n + 1 : Nat) : Int) := by omega
      rw [if_neg n1, if_neg n1, if_pos p1, if_pos p1, c0, up_ne (by decide), up_at, up_at]; exact ⟨rfl, rfl⟩
    · by_cases c1 : f + 1 ≤ x ∧ x < f + 1 + n
      · have p1 : f ≤ x ∧ x < f + ((n + 1 : Nat) : Int) := by omega
        rw [if_pos c1, if_pos c1, if_pos p1, if_pos p1]; exact ⟨rfl, rfl⟩
      · have p1 : ¬ (f ≤ x ∧ x < f + ((n + 1 : Nat) : Int)) := by (clear r e1; omega)
        rw [if_neg c1, if_neg c1, if_neg p1, if_neg p1, up_ne (by decide), up_of2 c0, up_of2 c0, up_ne (by decide)]; exact ⟨rfl, rfl⟩
theorem SS_x [Inhabited gh_] (h : SS b F Mx Mq a mask ee) (e : ∀ r : Nat, r ≠ 139 → r ≠ 141 → M1 r = Mx r) : SS b F M1 Mq a mask ee := by
  obtain ⟨h1, ⟨s1, s2, s3⟩, hm, h4⟩ := h
  have xb : XSb Mx M1 := ⟨fun r hr => e r (fun h => hr (by rw [h]; decide)) (fun h => hr (by rw [h]; decide)), fun i _ => by rw [e 1 (by decide) (by decide)], fun i _ _ => by rw [e 5 (by decide) (by decide)]⟩
  refine ⟨TS_c h1 xb QSb_rf (fun i _ _ => by rw [e 1 (by decide) (by decide)]) (by rw [e 5 (by decide) (by decide)]) (e _ (by decide) (by decide)) (e _ (by decide) (by decide)) (e _ (by decide) (by decide)) (e _ (by decide) (by decide)) (fun _ _ _ => rfl) rfl rfl rfl rfl rfl, ⟨by rw [e 5 (by decide) (by decide)]; exact s1, s2, s3⟩, hm, fun hb => ?_⟩
  obtain ⟨⟨xs, hs⟩, hl, hmb⟩ := h4 hb
  refine ⟨⟨xs, SRW_c hs (by rw [e 5 (by decide) (by decide)]) (e _ (by decide) (by decide)) (e _ (by decide) (by decide)) (e _ (by decide) (by decide)) (e _ (by decide) (by decide)) (e _ (by decide) (by decide)) rfl rfl rfl rfl rfl rfl rfl rfl⟩, hl, ?_⟩
  rw [e 1 (by decide) (by decide), e 123 (by decide) (by decide)]; exact hmb
theorem l_81 [Inhabited gh_] (hV : Cl_ wd0 (Tr_ wd0 pg0 128) V (rv_ Kv) Qt m_168) (hW : Wk_ V) {x1 : Int} : ∀ (n : Nat) (f : Int) (M : mm_), M 1 2 = 5 → M 5 4 = f + n → 0 ≤ f → M 5 4 ≤ 600 → Kv (xiF e c n f M) → V 81 [rr 1, ii x1, ii e, ii c, ii f] [] M
  | 0, f, M, h2, h4, h0, h6, h => b_168_81 (Tr_mono _) hV hW _ _ _ _ _ ⟨h2, by rw [if_neg (by omega)]; exact rv_i h⟩
  | n + 1, f, M, h2, h4, h0, h6, h => by
    refine b_168_81 (Tr_mono _) hV hW _ _ _ _ _ ⟨h2, ?_⟩
    rw [if_pos (by omega), w32_id (by omega) (by omega)]
    refine ⟨h2, by omega, h2, by omega, l_81 hV hW n (f + 1) _ ?_ ?_ (by omega) ?_ h⟩
    · rw [up_ne (by decide), up_ne (by decide)]; exact h2
    · rw [up_ne (by decide), up_ne (by decide)]; omega
    · rw [up_ne (by decide), up_ne (by decide)]; exact h6
theorem y_168t [Inhabited gh_] {x1 x2 : Int} (h : SS b F Mx Mq a mask ee) (he : ee ≤ 0) (h29 : 2 * Mx 1 29 + 3 ≤ a) (h76 : 2 * Mq 6 76 + 3 ≤ a) (hx1 : 0 ≤ x1 ∧ x1 ≤ Mx 5 4) (hk : 0 ≤ k ∧ k < 1300) (hS : b = 1 → ((tS (Mx 70) 259 a).bind fun a2 => PTj (Mx 70) (LMT Mx) 12 (a2, lc_ b Mx)) ≠ none)
    (hV : Cl_ wd0 (Tr_ wd0 pg0 128) V (rv_ Kv) Qt m_168) (hW : Wk_ V)
    (hK : ∀ F' M' N' a' v kk, SS b F' (xiF x2 (Mx 5 3) (Mx 5 4 - x1).toNat x1 (Xn_ M' b kk a')) (Qn_ N' b kk (M' 71 a')) a' mask (ee - 1) → a + 1 ≤ a' → PRC b F F' (sX_ (nX_ Mx) (Mx 1 34)) (tM_ (up_ (nx_ Mq) 197 k (Mq 6 75)) 0 mask) M' N' (a + 1) a' 0 0 (Mq 6 76) → SEM b (sX_ (nX_ Mx) (Mx 1 34)) (tM_ (up_ (nx_ Mq) 197 k (Mq 6 75)) 0 mask) M' N' v → (v = 0 ∨ v = 1) → kk = (if v = 0 then 6 else 0) → (b = 1 → Qn_ N' b kk (M' 71 a') 6 13 = 0 → kk = 0 ∧ N' 6 13 = 0)
      → (∀ lm, LOK b lm Mx M' → ((tS (Mx 70) 259 a).bind fun a2 => PTj (Mx 70) lm 12 (a2, lc_ b Mx)) = some (a', lc_ b M'))
      → (∀ (V' : vv_) (G : mm_ → Prop) (Qtq : qt_), Cl_ wd0 (Tr_ wd0 pg0 (dq + 16)) V' (rv_ G) Qtq m_306 → Wk_ V' → G (Qn_ N' b kk (M' 71 a')) → V' 74 [rr 6, ii mask, ii k, ii 0] [] Mq) → Kv (xiF x2 (Mx 5 3) (Mx 5 4 - x1).toNat x1 (Xn_ M' b kk a')))
    (hQ : b = 0 → ∀ Mx', XSb Mx Mx' → (∀ (V' : vv_) (G : mm_ → Prop) (Qtq : qt_), Cl_ wd0 (Tr_ wd0 pg0 (dq + 16)) V' (rv_ G) Qtq m_306 → Wk_ V' → (∀ M', SQb Mx' Mq M' → G M') → V' 74 [rr 6, ii mask, ii k, ii 0] [] Mq) → Qt 8 Mx') :
    V 52 [rr 1, ii x1, ii x2, none, none] [] Mx := by
  have hE := TS_E h.1
  have hT := h.1.1.1
  have ha := ER_a hE
  have h01 := bl01 hE
  have hf := h.1.2.2.2.2.2.1
  have bnd := h.2.1
  refine b_168_52 (Tr_mono _) hV hW _ _ _ ?_
  refine y_121 hE (by decide) (fun hb => bind_n (hS hb)) (fun k1 h12 hE1 => ?_) (fun hb k1 h12 => ?_) (fun hb k1 => ?_)
  rotate_left
  · have hsp := SQ_bf hE hb (k := 2) (by decide) QA_rf
    refine hQ hb _ (XA_XSb (XF_XA fl_XF)) (fun V' G Qtq hV' hW' hk9 => b_306_74 (Tr_mono _) hV' hW' _ _ _ _ (j_244r hT hE hb (by decide) k1 h12 (q_227s hsp.1 ?_)))
    rw [if_neg (by decide)]
    exact q_260z hsp.1 (rv_i (hk9 _ ⟨hsp.1, hsp.2.1, hsp.2.2.1, hsp.2.2.2.1, QA_QSb hsp.2.2.2.2⟩))
  · have hsp := SQ_bf hE hb (k := 1) (by decide) QA_rf
    refine hQ hb _ (XA_XSb (XF_XA fl_XF)) (fun V' G Qtq hV' hW' hk9 => b_306_74 (Tr_mono _) hV' hW' _ _ _ _ (j_244w hT hE hb (by decide) k1 (q_227s hsp.1 ?_)))
    rw [if_neg (by decide)]
    exact q_260z hsp.1 (rv_i (hk9 _ ⟨hsp.1, hsp.2.1, hsp.2.2.1, hsp.2.2.2.1, QA_QSb hsp.2.2.2.2⟩))
  have S1 := SS_u (r := 197) (i := k) (v := Mq 6 75) (.inr (.inr rfl)) (SS_go h hE1)
  have f1 : ∀ i : Int, i ≠ 3 → nX_ Mx 1 i = Mx 1 i := fun i hi => nX_1 hi
  have e5 : nX_ Mx 5 = Mx 5 := nX_ne (by decide)
  have x70 : nX_ Mx 70 = Mx 70 := nX_ne (by decide)
  have q6 : up_ (nx_ Mq) 197 k (Mq 6 75) 6 = nx_ Mq 6 := up_ne (by decide)
  have q76 : up_ (nx_ Mq) 197 k (Mq 6 75) 6 76 = Mq 6 76 := by rw [q6, nx_6 (by decide)]
  have eN : ∀ lm j, ((tS (Mx 70) 259 a).bind fun a2 => PTj (Mx 70) lm 12 (a2, j)) = PTj (Mx 70) lm 12 (a + 1, j) := fun lm j => by rw [tS_e (show Mx 70 a = 259 from k1) h12, Option.bind_some]
  have lk := LKP_F (b := b) (nX_XF (M := Mx))
  have qsb : QSb Mq (up_ (nx_ Mq) 197 k (Mq 6 75)) := QSb_tr (QA_QSb (QF_QA nx_QF)) ⟨fun r hr => up_ne (fun h => hr (by rw [h]; decide)), fun j _ => by rw [up_ne (by decide)]⟩
  have toQ : ∀ (V' : vv_) (G : mm_ → Prop) (Qtq : qt_), Cl_ wd0 (Tr_ wd0 pg0 (dq + 16)) V' (rv_ G) Qtq m_306 → Wk_ V' → Tr_ wd0 pg0 (dq + 16) 260 [.inr (.inr 6), .inl 0, .inl mask] (up_ (nx_ Mq) 197 k (Mq 6 75)) (rv_ G) Qtq → V' 74 [rr 6, ii mask, ii k, ii 0] [] Mq := fun V' G Qtq hV' hW' hq => b_306_74 (Tr_mono _) hV' hW' _ _ _ _ (j_244t hT hE (by decide) k1 h12 (q_227g (ER_goq hE1) (by
    rw [if_pos rfl, nx_6 (by decide)]
    exact ⟨hk, Tr_rv hq⟩)))
  refine ⟨by rw [f1 2 (by decide)]; exact h.1.1.2.1.1, ?_⟩
  rw [f1 34 (by decide), e5]
  refine y_trn (d := 127) (dq := dq) (st := 0) (mk := mask) S1.1 (by rw [f1 29 (by decide)]; omega) (by rw [q76]; (clear h he h29 hx1 hk hS hV hW hK hQ hE hT ha h01 hf bnd k1 h12 hE1 S1 f1 e5 x70 q6 eN lk qsb toQ; lia)) (by rw [f1 7 (by decide)]; omega) (fun hb => ?_) (.inl rfl) (fun hb => ?_) (fun F' M' N' a' v kk hTS P Sm hv hkk E3 hsy hq => ?_) (fun hb Mx' hx hq => ?_)
  · have := (h.2.2.2 hb).2.2.1.1
    constructor
    · intro e; omega
    · intro e; exact absurd rfl e
  · rw [x70, lk.2, lk.1.2.2.2 hb, ← eN]; exact hS hb
  · have S4 := SS_t S1 hTS P
    have q := P
    rw [q76] at q
    have aa : a + 1 ≤ a' := P.2.2.2.2.1.1
    have y54 : Xn_ M' b kk a' 5 4 = Mx 5 4 := by
      rw [Xn_r (by decide), P.2.2.1.1.2.2 4 (by decide), sX_r (by decide) (by decide) (by decide) (by decide) (by decide), e5]
    have y12 : Xn_ M' b kk a' 1 2 = 5 := hTS.1.2.1.1
    refine l_81 hV hW (Mx 5 4 - x1).toNat x1 (Xn_ M' b kk a') y12 (by (clear h he h29 h76 hk hS hV hW hK hQ hE hT ha h01 hf bnd k1 h12 hE1 S1 f1 e5 x70 q6 q76 eN lk qsb toQ hTS P Sm hv hkk E3 hsy hq S4 q aa y12; lia)) hx1.1 (by (clear h h29 h76 hx1 hk hS hV hW hK hQ hE hT h01 hf k1 hE1 S1 f1 e5 x70 q6 q76 eN lk qsb toQ hTS P Sm hv hkk E3 hsy hq S4 q aa y12; lia)) ?_
    refine hK F' M' N' a' v kk (SS_x S4 (fun r h1 h2 => xiF_r h1 h2 _ _ _)) aa q Sm hv hkk E3 (fun lm hlm => ?_) (fun V' G Qtq hV' hW' hg => toQ V' G Qtq hV' hW' (hq _ _ hg))
    have l1 := (LOK_s lk.1 (LKP_tr (LKP_X (sX_r (by decide) (by decide) (by decide) (by decide) (by decide)) (sX_r (by decide) (by decide) (by decide) (by decide) (by decide)) (sX_1 (by decide)) (sX_1 (by decide))).1 (LKP_P P)) hlm).2
    have e := hsy lm l1
    rw [x70, lk.2] at e
    rw [eN]; exact e
  · exact hQ hb Mx' (XSb_tr (XA_XSb (XF_XA nX_XF)) hx) (fun V' G Qtq hV' hW' hk9 => toQ V' G Qtq hV' hW' (hq _ _ fun M' p1 p2 p3 p4 p5 => hk9 _ ⟨p1, p2, p3, p4, QSb_tr qsb p5⟩))
end IT
end T204_ip
section T205_ip
/-! INPUT whole -/
def ifS (κ : Int → Int) (a : Int) : Option Int := if κ a = 26 then (gS a).bind fun a1 => ES κ 0 0 a1 else some a
def ipS (κ : Int → Int) (lm : Int → Int → Bool) (s : sj_) : Option sj_ := (gS s.1).bind fun a1 => (IL κ a1).bind fun a2 => (ifS κ a2).bind fun a3 => (tS κ 259 a3).bind fun a4 => PTj κ lm 12 (a4, s.2)
/-- Q: INPUT within a state's lines -/
def qIN (dq : Nat) (mask : Int) (N : mm_) (G : mm_ → Prop) (Qt : qt_) : Prop := Tr_ wd0 pg0 (dq + 17) 228 [.inr (.inr 6), .inl 7] N (ri_ fun v4 M4 => if v4 = 0 then False else Tr_ wd0 pg0 (dq + 17) 306 [.inr (.inr 6), .inl mask] M4 (rv_ G) Qt) Qt
/-- what an INPUT leaves: its ins, its e, its trans -/
def IPF [Inhabited gh_] (b F F' : Int) (Mx Mq : mm_) (a mask : Int) (M9 N9 : mm_) (a9 : Int) : Prop := ∃ (Ma Na Mb Nb M' N' : mm_) (aa ab x2 v kk : Int),
  SLG b 0 (nX_ Mx) (stQ_ (nx_ Mq) 0 mask) Ma Na ∧ a + 2 ≤ aa ∧
  ((ab = aa ∧ x2 = -1 ∧ Mb = Ma ∧ Nb = nE_ Na) ∨ (∃ Mc Nc, WR b F (nX_ Ma) (nx_ (nE_ Na)) Mc Nc (aa + 1) ab 0 1 ∧ x2 = Ma 5 3 ∧ Mb = pX_ Mc 25 ∧ Nb = up_ Nc 196 (Mq 6 62) (Na 6 104)))
  ∧ PRC b F F' (sX_ (nX_ Mb) (Mb 1 34)) (tM_ (up_ (nx_ Nb) 197 (Mq 6 62) (Nb 6 75)) 0 mask) M' N' (ab + 1) a9 0 0 (Nb 6 76) ∧ SEM b (sX_ (nX_ Mb) (Mb 1 34)) (tM_ (up_ (nx_ Nb) 197 (Mq 6 62) (Nb 6 75)) 0 mask) M' N' v ∧ (v = 0 ∨ v = 1) ∧ kk = (if v = 0 then 6 else 0) ∧ (b = 1 → Qn_ N' b kk (M' 71 a9) 6 13 = 0 → kk = 0 ∧ N' 6 13 = 0)
  ∧ M9 = xiF x2 (Mb 5 3) (Mb 5 4 - Mx 5 4).toNat (Mx 5 4) (Xn_ M' b kk a9) ∧ N9 = Qn_ N' b kk (M' 71 a9)
section IW
variable {dq : Nat} {b F F' : Int} {Mx Mq : mm_} {a mask : Int} {Kv G : mm_ → Prop} {Qt : qt_}
theorem sp_up [Inhabited gh_] {r : Nat} {N : mm_} {i v : Int} (hr : r ≠ 6) (h : sp_ N) : sp_ (up_ N r i v) := by unfold sp_; rw [up_ne (fun e => hr e.symm)]; exact h
theorem in9_up [Inhabited gh_] {r : Nat} {N : mm_} {i v : Int} (hr : r ≠ 6) (h : in9_ N) : in9_ (up_ N r i v) := by unfold in9_; rw [up_ne (fun e => hr e.symm)]; exact h
theorem q_306z [Inhabited gh_] {d : Nat} {N : mm_} (hs : sp_ N) (h : G N) : Tr_ wd0 pg0 (d + 17) 306 [.inr (.inr 6), .inl mask] N (rv_ G) Qt := t_306 fun V hV hW => b_306_0 (Tr_mono _) hV hW _ _ (q_307s hs (q9_s (dq := d) hV hW hs h))
theorem y_168 [Inhabited gh_] (h : SS b F Mx Mq a mask 0) (hk : Mx 70 a = 7) (hS : b = 1 → ipS (Mx 70) (LMT Mx) (a, lc_ b Mx) ≠ none)
    (hK : ∀ F' M9 N9 a9, SS b F' M9 N9 a9 mask 0 → a + 3 ≤ a9 → IPF b F F' Mx Mq a mask M9 N9 a9 → (∀ lm, LOK b lm Mx M9 → ipS (Mx 70) lm (a, lc_ b Mx) = some (a9, lc_ b M9)) → (∀ (G : mm_ → Prop) (Qtq : qt_), G N9 → qIN dq mask Mq G Qtq) → Kv M9)
    (hQ : b = 0 → ∀ Mx', XSb Mx Mx' → (∀ (G : mm_ → Prop) (Qtq : qt_), (∀ M', SQb Mx' Mq M' → G M') → qIN dq mask Mq G Qtq) → Qt 8 Mx') :
    Tr_ wd0 pg0 129 168 [.inr (.inr 1)] Mx (rv_ Kv) Qt := by
  have hE := TS_E h.1
  have hT := h.1.1.1
  have ha := ER_a hE
  have h01 := bl01 hE
  have u := h.1.2.2.2.2.1
  have bnd := h.2.1
  refine t_168 fun V hV hW => b_168_0 (Tr_mono _) hV hW _ ⟨h.1.1.2.1.1, ?_⟩
  refine b_168_8 (Tr_mono _) hV hW _ _ ?_
  refine y_105 hE (by omega) (fun hb => bind_n (hS hb)) (fun h12 hE1 => ?_) (fun hb h12 => ?_)
  rotate_left
  · have hsp := SQ_bf hE hb (k := 2) (by decide) QA_rf
    refine hQ hb _ (XA_XSb (XF_XA fl_XF)) (fun G Qtq hk9 => j_228r hT hE hb (by decide) hk h12 ?_)
    rw [if_neg (by decide)]
    exact q_306z hsp.1 (hk9 _ ⟨hsp.1, hsp.2.1, hsp.2.2.1, hsp.2.2.2.1, QA_QSb hsp.2.2.2.2⟩)
  have S1 := SS_go h hE1
  rw [show (0 : Int) - 1 = -1 by decide] at S1
  have S2 := SL_st (w := 0) S1 (by decide) (.inl rfl)
  have x70 : nX_ Mx 70 = Mx 70 := nX_ne (by decide)
  have q62 : stQ_ (nx_ Mq) 0 mask 6 62 = Mq 6 62 + 1 := by rw [stQ_62, nx_6 (by decide)]
  have bk : 0 ≤ Mq 6 62 ∧ Mq 6 62 < 1300 := by omega
  have eW : ∀ lm j, ipS (Mx 70) lm (a, j) = (IL (Mx 70) (a + 1)).bind fun a2 => (ifS (Mx 70) a2).bind fun a3 => (tS (Mx 70) 259 a3).bind fun a4 => PTj (Mx 70) lm 12 (a4, j) := fun lm j => by unfold ipS; rw [gS_e h12, Option.bind_some]
  have toQ : ∀ (G : mm_ → Prop) (Qtq : qt_), q06 dq mask (Mq 6 62) 1 (stQ_ (nx_ Mq) 0 mask) G Qtq → qIN dq mask Mq G Qtq := fun G Qtq hq => j_228t hT hE (by decide) hk h12 (by
    rw [if_neg (by decide)]
    refine t_306 fun V' hV' hW' => b_306_0 (Tr_mono _) hV' hW' _ _ (q_307g (ER_goq hE1) (by rw [nx_6 (by decide)]; exact bk) ?_)
    rw [nx_6 (by decide)]
    exact hq V' hV' hW')
  have xs1 : XSb Mx (nX_ Mx) := XA_XSb (XF_XA nX_XF)
  have qs1 : QSb Mq (stQ_ (nx_ Mq) 0 mask) := QSb_tr (QA_QSb (QF_QA nx_QF)) stQ_QSb
  refine l_168 (dq := dq) (k := Mq 6 62) (f := Mx 5 4) hV hW 1201 (a + 1) (nX_ Mx) (stQ_ (nx_ Mq) 0 mask) (by omega) S2 (fun hb => by rw [x70]; have := hS hb; rw [eW] at this; exact bind_n this) (fun Ma Na aa S3 haa G3 h44 hsy hq3 => ?_) (fun hb Mx' hx hq => ?_)
  rotate_left
  · exact hQ hb Mx' (XSb_tr xs1 hx) (fun G Qtq hg => toQ G Qtq (hq G Qtq fun M' p => hg _ ⟨p.1, p.2.1, p.2.2.1, p.2.2.2.1, QSb_tr qs1 p.2.2.2.2⟩))
  rw [x70] at hsy
  have eW2 : ∀ lm j, ipS (Mx 70) lm (a, j) = (ifS (Mx 70) aa).bind fun a3 => (tS (Mx 70) 259 a3).bind fun a4 => PTj (Mx 70) lm 12 (a4, j) := fun lm j => by rw [eW, hsy, Option.bind_some]
  have a70 : Ma 70 = Mx 70 := (G3.1.1 70 (by decide)).trans x70
  have a62 : Na 6 62 = Mq 6 62 + 1 := (G3.2.1.2.1 62 (by decide)).trans q62
  have S4 : SS b F Ma (nE_ Na) aa mask 0 := SL_end S3 (by rw [a62]; (clear h hk hS hK hQ hE hT ha h01 u hV hW h12 hE1 S1 S2 x70 bk eW toQ xs1 qs1 S3 G3 h44 hsy hq3 eW2 a70; lia))
  have hE4 := TS_E S4.1
  have hT4 := S4.1.1.1
  have a1 : ∀ i : Int, i ∉ xiI → Ma 1 i = Mx 1 i := fun i hi => by rw [G3.1.2.1 i hi, nX_1 (nm_i hi (by decide))]
  have n6 : ∀ i : Int, i ∉ qiI → i ≠ 62 → Na 6 i = Mq 6 i := fun i hi h62 => by rw [G3.2.1.2.1 i hi, stQ_6 h62, nx_6 (nm_i hi (by decide))]
  have a5 : Ma 5 3 = Mx 5 3 := by rw [G3.1.2.2.1 3 (by decide), nX_ne (by decide)]
  have a54 : Mx 5 4 ≤ Ma 5 4 := by have := G3.1.2.2.2.1; rw [nX_ne (by decide)] at this; exact this
  have lkA := LKP_X (b := b) (M1 := Ma) (Mx := Mx) (by rw [G3.1.1 62 (by decide), nX_ne (by decide)]) (by rw [G3.1.1 128 (by decide), nX_ne (by decide)]) (a1 18 (by decide)) (a1 19 (by decide))
  have xsa : XSb Mx Ma := XSb_tr xs1 (SLG_XSb G3)
  have qsa : QSb Mq (nE_ Na) := QSb_tr qs1 (QSb_tr (SLG_QSb G3) nE_QSb)
  have e62 : Na 6 62 - 1 = Mq 6 62 := by (clear h hk hS hK hQ hE hT ha h01 u bnd hV hW h12 hE1 S1 S2 x70 bk eW toQ xs1 qs1 S3 haa G3 h44 hsy hq3 eW2 a70 S4 hE4 hT4 a1 n6 a5 a54 lkA xsa qsa; lia)
  have toQ3 : ∀ (G : mm_ → Prop) (Qtq : qt_), (∀ V' : vv_, Cl_ wd0 (Tr_ wd0 pg0 (dq + 16)) V' (rv_ G) Qtq m_306 → Wk_ V' → Tr_ wd0 pg0 (dq + 16) 228 [.inr (.inr 6), .inl 26] (nE_ Na) (ri_ fun v4 M4 =>
    (if v4 = 0 then
     V' 74 [rr 6, ii mask, ii (Mq 6 62), ii 0] [] M4
    else
     Tr_ wd0 pg0 (dq + 16) 270 [.inr (.inr 6), .inl 2] M4 (ri_ fun v5 M5 =>
      (0 ≤ Mq 6 62 ∧ Mq 6 62 < 1300) ∧
       V' 74 [rr 6, ii mask, ii (Mq 6 62), ii 0] [] (up_ M5 196 (Mq 6 62) v5)) Qtq)) Qtq) → qIN dq mask Mq G Qtq := fun G Qtq hq => toQ G Qtq (hq3 G Qtq fun V' hV' hW' => by
    refine b_306_9 (Tr_mono _) hV' hW' _ _ _ _ ?_
    rw [if_pos rfl]
    refine b_306_37 (Tr_mono _) hV' hW' _ _ _ _ (q_227g (ER_goq (TS_E S3.1)) ?_)
    rw [if_pos rfl]
    refine ⟨bk, ?_⟩
    have := hq V' hV' hW'
    unfold nE_ at this
    rw [e62] at this
    exact this)
  -- the rest, behind the e
  have rest : ∀ (Mb Nb : mm_) (ab x2 ee : Int), SS b F Mb Nb ab mask ee → ee ≤ 0 → aa ≤ ab → Mb 5 4 = Ma 5 4 → (∀ i : Int, i = 29 ∨ i = 34 → Mb 1 i = Mx 1 i) → Nb 6 76 = Mq 6 76 → Mb 70 = Mx 70 → LKP b Mx Mb → lc_ b Mb = lc_ b Mx → XSb Mx Mb → QSb Mq Nb →
      ((ab = aa ∧ x2 = -1 ∧ Mb = Ma ∧ Nb = nE_ Na) ∨ (∃ Mc Nc, WR b F (nX_ Ma) (nx_ (nE_ Na)) Mc Nc (aa + 1) ab 0 1 ∧ x2 = Ma 5 3 ∧ Mb = pX_ Mc 25 ∧ Nb = up_ Nc 196 (Mq 6 62) (Na 6 104))) →
      (∀ lm j, ipS (Mx 70) lm (a, j) = (tS (Mx 70) 259 ab).bind fun a4 => PTj (Mx 70) lm 12 (a4, j)) →
      (∀ (G : mm_ → Prop) (Qtq : qt_), (∀ V' : vv_, Cl_ wd0 (Tr_ wd0 pg0 (dq + 16)) V' (rv_ G) Qtq m_306 → Wk_ V' → V' 74 [rr 6, ii mask, ii (Mq 6 62), ii 0] [] Nb) → qIN dq mask Mq G Qtq) →
      V 52 [rr 1, ii (Mx 5 4), ii x2, none, none] [] Mb := fun Mb Nb ab x2 ee S5 hee hab m54 b1 n76 b70 lk5 lc5 xsb qsB hcase eW3 toQ4 => by
    refine y_168t (dq := dq) (x1 := Mx 5 4) (k := Mq 6 62) S5 hee (by rw [b1 29 (.inl rfl)]; (clear h hk hS hK hQ hE hT ha h01 bnd hV hW h12 hE1 S1 S2 x70 q62 bk eW toQ xs1 qs1 S3 G3 h44 hsy hq3 eW2 a70 a62 S4 hE4 hT4 a1 n6 a5 a54 lkA xsa qsa e62 toQ3 S5 hee m54 b1 n76 b70 lk5 lc5 xsb qsB hcase eW3 toQ4; lia)) (by rw [n76]; (clear h hk hS hK hQ hE hT ha h01 bnd hV hW h12 hE1 S1 S2 x70 q62 bk eW toQ xs1 qs1 S3 G3 h44 hsy hq3 eW2 a70 a62 S4 hE4 hT4 a1 n6 a5 a54 lkA xsa qsa e62 toQ3 S5 hee m54 b1 b70 lk5 lc5 xsb qsB hcase eW3 toQ4; lia)) (by rw [m54]; (clear h hk hS hK hQ hE hT ha h01 u hV hW h12 hE1 S1 S2 x70 q62 bk eW toQ xs1 qs1 S3 haa G3 h44 hsy hq3 eW2 a70 a62 S4 hE4 hT4 a1 n6 a5 lkA xsa qsa e62 toQ3 S5 hee hab b1 n76 b70 lk5 lc5 xsb qsB hcase eW3 toQ4; omega)) bk (fun hb => by rw [b70, lc5, lk5.2.2.2 hb, ← eW3]; exact hS hb) hV hW (fun F' M' N' a' v kk S9 ha9 P Sm hv hkk E3 hsy9 hq9 => ?_) (fun hb Mx' hx hq9 => ?_)
    · refine hK F' _ _ a' (SS_le S9 (by omega)) (by (clear h hk hS hK hQ hE hT ha h01 u bnd hV hW h12 hE1 S1 S2 x70 q62 bk eW toQ xs1 qs1 S3 G3 h44 hsy hq3 eW2 a70 a62 S4 hE4 hT4 a1 n6 a5 a54 lkA xsa qsa e62 toQ3 S5 hee m54 b1 n76 b70 lk5 lc5 xsb qsB hcase eW3 toQ4 S9 P Sm hv hkk E3 hsy9 hq9; lia)) ⟨Ma, Na, Mb, Nb, M', N', aa, ab, x2, v, kk, G3, by omega, hcase, P, Sm, hv, hkk, E3, rfl, rfl⟩ (fun lm hlm => ?_) (fun G Qtq hg => toQ4 G Qtq fun V' hV' hW' => hq9 V' G Qtq hV' hW' hg)
      have lk9 := LKP_X (b := b) (M1 := xiF x2 (Mb 5 3) (Mb 5 4 - Mx 5 4).toNat (Mx 5 4) (Xn_ M' b kk a')) (Mx := M') (by rw [xiF_r (by decide) (by decide), Xn_r (by decide)]) (by rw [xiF_r (by decide) (by decide), Xn_r (by decide)]) (by rw [xiF_r (by decide) (by decide)]; exact (Xn_XF (M := M')).2.1 18 (by decide) (by decide) (by decide) (by decide) (by decide)) (by rw [xiF_r (by decide) (by decide)]; exact (Xn_XF (M := M')).2.1 19 (by decide) (by decide) (by decide) (by decide) (by decide))
      have lkP : LKP b Mb M' := LKP_tr (LKP_F (nX_XF (M := Mb))).1 (LKP_tr (LKP_X (sX_r (by decide) (by decide) (by decide) (by decide) (by decide)) (sX_r (by decide) (by decide) (by decide) (by decide) (by decide)) (sX_1 (by decide)) (sX_1 (by decide))).1 (LKP_P P))
      have l1 := (LOK_s lk5 (LKP_tr lkP lk9.1) hlm).2
      have l2 := (LOK_s lkP lk9.1 l1).1
      have e := hsy9 lm l2
      rw [b70, lc5] at e
      rw [eW3, lk9.2]; exact e
    · exact hQ hb Mx' (XSb_tr xsb hx) (fun G Qtq hk9 => toQ4 G Qtq fun V' hV' hW' => hq9 V' G Qtq hV' hW' (fun M' hs => hk9 M' ⟨hs.1, hs.2.1, hs.2.2.1, hs.2.2.2.1, QSb_tr qsB hs.2.2.2.2⟩))
  unfold z168
  refine y_117 (TS_E S3.1) (by decide) (fun c => absurd c h44) (fun _ => ?_)
  rw [if_pos rfl]
  refine y_103 hE4 (fun c => ?_) (fun c => ?_)
  · rw [if_neg (by decide)]
    have c' : Mx 70 aa = 26 := by rw [← a70]; exact c
    have eIf : ifS (Mx 70) aa = (gS aa).bind fun a1 => ES (Mx 70) 0 0 a1 := by unfold ifS; rw [if_pos c']
    refine y_105 hE4 (by rw [c]; decide) (fun hb => by have := hS hb; rw [eW2, eIf] at this; exact bind_n (bind_n this)) (fun h13 hE5 => ?_) (fun hb h13 => ?_)
    rotate_left
    · have hsp := SQ_bf hE4 hb (k := 2) (by decide) QA_rf
      refine hQ hb _ (XSb_tr xsa (XA_XSb (XF_XA fl_XF))) (fun G Qtq hg => toQ3 G Qtq fun V' hV' hW' => j_228r hT4 hE4 hb (by decide) c h13 ?_)
      rw [if_neg (by decide)]
      exact q_270s hsp.1 ⟨bk, q74_s hV' hW' (by exact sp_up (by decide) hsp.1) (hg _ ⟨sp_up (by decide) hsp.1, in9_up (by decide) hsp.2.1, by rw [up_ne (by decide)]; exact hsp.2.2.1, ⟨by rw [up_ne (by decide)]; exact hsp.2.2.2.1.1, hsp.2.2.2.1.2⟩, QSb_tr qsa (QSb_tr (QA_QSb hsp.2.2.2.2) ⟨fun r hr => up_ne (fun h => hr (by rw [h]; decide)), fun j _ => by rw [up_ne (by decide)]⟩)⟩)⟩
    rw [gS_e h13, Option.bind_some] at eIf
    have S5 := SS_go S4 hE5
    have b12 : nX_ Ma 1 2 = 5 := by rw [nX_1 (by decide), a1 2 (by decide)]; exact h.1.1.2.1.1
    have e53 : nX_ Ma 5 3 = Ma 5 3 := by rw [nX_ne (by decide)]
    have y70 : nX_ Ma 70 = Mx 70 := by rw [nX_ne (by decide)]; exact a70
    have q104 : nx_ (nE_ Na) 6 104 = Na 6 104 := by rw [nx_6 (by decide), nE_r (by decide)]
    refine ⟨b12, ?_⟩
    rw [e53]
    refine Tr_le (d := 123) (by omega) (y_174 (dq := dq + 4) S5 (fun hb => by rw [y70]; have := hS hb; rw [eW2, eIf] at this; exact bind_n this) (fun Mc Nc ab S6 hWR hes hq => ?_) (fun hb Mx' hx hq => ?_))
    · rw [y70] at hes
      rw [q104] at hq
      have wr := hWR
      obtain ⟨w1, w2, w3, w4, w5, w6, w7, w8, w9, w10⟩ := wr
      have S7 := SS_u (r := 196) (i := Mq 6 62) (v := Na 6 104) (.inr (.inl rfl)) S6
      have xfc : XF (nX_ Ma) (pX_ Mc 25) := XF_tr w2 pX_XF
      have xfA : XF Ma (pX_ Mc 25) := XF_tr nX_XF xfc
      have lkF := LKP_F (b := b) xfA
      refine rest (pX_ Mc 25) (up_ Nc 196 (Mq 6 62) (Na 6 104)) ab (Ma 5 3) _ S7 (by (clear h hk hS hK hQ hE hT ha h01 u bnd hV hW h12 hE1 S1 S2 x70 q62 bk eW toQ xs1 qs1 S3 haa G3 h44 hsy hq3 eW2 a70 a62 S4 hE4 hT4 a1 n6 a5 a54 lkA xsa qsa e62 toQ3 rest c c' eIf h13 hE5 S5 b12 e53 y70 q104 S6 hWR hes hq w2 w3 w4 w5 w6 w7 w8 w9 w10 S7 xfc xfA lkF; omega)) (by (clear h hk hS hK hQ hE hT ha h01 u bnd hV hW h12 hE1 S1 S2 x70 q62 bk eW toQ xs1 qs1 S3 haa G3 h44 hsy hq3 eW2 a70 a62 S4 hE4 hT4 a1 n6 a5 a54 lkA xsa qsa e62 toQ3 rest c c' eIf h13 hE5 S5 b12 e53 y70 q104 S6 hWR hes hq w2 w3 w4 w5 w6 w7 w8 w9 w10 S7 xfc xfA lkF; omega)) (xfA.2.2 4 (by decide)) (fun i hi => ?_) ?_ ?_ (LKP_tr lkA.1 lkF.1) (lkF.2.trans lkA.2) (XSb_tr xsa (XA_XSb (XF_XA xfA))) ?_ (.inr ⟨Mc, Nc, hWR, rfl, rfl, rfl⟩) (fun lm j => by rw [eW2, eIf, hes, Option.bind_some]) (fun G Qtq hg => toQ3 G Qtq fun V' hV' hW' => j_228t hT4 hE4 (by decide) c h13 ?_)
      · rw [xfA.2.1 i (by (clear h hk hS hK hQ hE hT ha h01 u bnd hV hW h12 hE1 S1 S2 x70 q62 bk eW toQ xs1 qs1 S3 haa G3 h44 hsy hq3 eW2 a70 a62 S4 hE4 hT4 a1 n6 a5 a54 lkA xsa qsa e62 toQ3 rest c c' eIf h13 hE5 S5 b12 e53 y70 q104 S6 hWR hes hq w1 w2 w3 w4 w5 w6 w7 w8 w9 w10 S7 xfc xfA lkF; lia)) (by (clear h hk hS hK hQ hE hT ha h01 u bnd hV hW h12 hE1 S1 S2 x70 q62 bk eW toQ xs1 qs1 S3 haa G3 h44 hsy hq3 eW2 a70 a62 S4 hE4 hT4 a1 n6 a5 a54 lkA xsa qsa e62 toQ3 rest c c' eIf h13 hE5 S5 b12 e53 y70 q104 S6 hWR hes hq w1 w2 w3 w4 w5 w6 w7 w8 w9 w10 S7 xfc xfA lkF; lia)) (by (clear h hk hS hK hQ hE hT ha h01 u bnd hV hW h12 hE1 S1 S2 x70 q62 bk eW toQ xs1 qs1 S3 haa G3 h44 hsy hq3 eW2 a70 a62 S4 hE4 hT4 a1 n6 a5 a54 lkA xsa qsa e62 toQ3 rest c c' eIf h13 hE5 S5 b12 e53 y70 q104 S6 hWR hes hq w1 w2 w3 w4 w5 w6 w7 w8 w9 w10 S7 xfc xfA lkF; omega)) (by (clear h hk hS hK hQ hE hT ha h01 u bnd hV hW h12 hE1 S1 S2 x70 q62 bk eW toQ xs1 qs1 S3 haa G3 h44 hsy hq3 eW2 a70 a62 S4 hE4 hT4 a1 n6 a5 a54 lkA xsa qsa e62 toQ3 rest c c' eIf h13 hE5 S5 b12 e53 y70 q104 S6 hWR hes hq w1 w2 w3 w4 w5 w6 w7 w8 w9 w10 S7 xfc xfA lkF; lia)) (by (clear h hk hS hK hQ hE hT ha h01 u bnd hV hW h12 hE1 S1 S2 x70 q62 bk eW toQ xs1 qs1 S3 haa G3 h44 hsy hq3 eW2 a70 a62 S4 hE4 hT4 a1 n6 a5 a54 lkA xsa qsa e62 toQ3 rest c c' eIf h13 hE5 S5 b12 e53 y70 q104 S6 hWR hes hq w1 w2 w3 w4 w5 w6 w7 w8 w9 w10 S7 xfc xfA lkF; lia)), a1 i (by rcases hi with q | q <;> rw [q] <;> decide)]
      · rw [up_ne (by decide), w3.2 76 (by decide) (by decide) (by decide) (by decide) (by decide) (by decide) (by decide) (by decide) (by decide) (by decide) (by decide), nx_6 (by decide), nE_r (by decide)]; exact n6 76 (by decide) (by decide)
      · rw [pX_r (by decide) (by decide), XF_70 w2 (by decide) (by decide) (by decide), y70]
      · exact QSb_tr qsa (QSb_tr (QA_QSb (QF_QA nx_QF)) (QSb_tr (QA_QSb (QG_QA w3)) ⟨fun r hr => up_ne (fun h => hr (by rw [h]; decide)), fun j _ => by rw [up_ne (by decide)]⟩))
      · rw [if_neg (by decide)]
        exact hq _ _ ⟨bk, hg V' hV' hW'⟩
    · refine hQ hb Mx' (XSb_tr xsa (XSb_tr (XA_XSb (XF_XA nX_XF)) (XA_XSb (XF_XA hx)))) (fun G Qtq hg => toQ3 G Qtq fun V' hV' hW' => j_228t hT4 hE4 (by decide) c h13 ?_)
      rw [if_neg (by decide)]
      refine hq _ _ fun M' p1 p2 p3 p4 p5 => ⟨bk, q74_s hV' hW' (sp_up (by decide) p1) (hg _ ⟨sp_up (by decide) p1, in9_up (by decide) p2, by rw [up_ne (by decide)]; exact p3, ⟨by rw [up_ne (by decide)]; exact p4.1, p4.2⟩, QSb_tr qsa (QSb_tr (QA_QSb (QF_QA nx_QF)) (QSb_tr (QA_QSb (QF_QA p5)) ⟨fun r hr => up_ne (fun h => hr (by rw [h]; decide)), fun j _ => by rw [up_ne (by decide)]⟩))⟩)⟩
  · rw [if_pos rfl]
    have c' : ¬ Mx 70 aa = 26 := by rw [← a70]; exact c
    have eIf : ifS (Mx 70) aa = some aa := by unfold ifS; rw [if_neg c']
    exact rest Ma (nE_ Na) aa (-1) 0 S4 (Int.le_refl _) (Int.le_refl _) rfl (fun i hi => a1 i (by rcases hi with q | q <;> rw [q] <;> decide)) (by rw [nE_r (by decide)]; exact n6 76 (by decide) (by decide)) a70 lkA.1 lkA.2 xsa qsa (.inl ⟨rfl, rfl, rfl, rfl⟩) (fun lm j => by rw [eW2, eIf, Option.bind_some]) (fun G Qtq hg => toQ3 G Qtq fun V' hV' hW' => j_228f hT4 hE4 (by decide) c (by rw [if_pos rfl]; exact hg V' hV' hW'))
end IW
end T205_ip
section T206_gr
/-! growth over lines of states: what is kept (second pass) -/
def xeL : List Nat := [1, 5, 63, 64, 65, 66, 129, 133, 134, 135, 136, 137, 138, 139, 140, 141, 142]
def qeL : List Nat := [6, 188, 189, 192, 193, 194, 195, 196, 197, 198, 199, 200, 201, 202, 203, 204, 205, 206, 207, 208, 209, 210, 211, 212, 213, 214, 215, 216, 217, 218, 219, 220, 221, 222, 223, 224, 225, 226, 227, 228, 229, 230, 231, 232, 233, 234]
def st9L : List Nat := [133, 134, 135, 136, 138, 139, 140, 141]
def sq9L : List Nat := [192, 193, 194, 195, 196, 197, 198, 199]
def txL : List Nat := [63, 64, 65, 66]
def tqL : List Nat := [211, 212, 213, 214, 215]
def OLX (M M' : mm_) : Prop := (Fr_ xeL M M' ∧ (∀ i : Int, i ∉ xbI → M' 1 i = M 1 i) ∧ (∀ i : Int, i ≠ 3 → i ≠ 4 → M' 5 i = M 5 i)) ∧ (M 5 3 ≤ M' 5 3 ∧ M 5 4 ≤ M' 5 4 ∧ M 1 29 ≤ M' 1 29 ∧ M 1 19 ≤ M' 1 19)
  ∧ (∀ i, 0 ≤ i → i < M 5 3 → M' 142 i = M 142 i) ∧ (∀ r i, r ∈ st9L → 0 ≤ i → i < M 5 4 → M' r i = M r i) ∧ (∀ i, 0 ≤ i → i < 3 * M 5 4 → M' 137 i = M 137 i) ∧ (∀ r i, r ∈ txL → 0 ≤ i → i < M 1 29 → M' r i = M r i) ∧ (∀ i, i < 10 * M 1 18 + M 1 19 ∨ 10 * M 1 18 + 10 ≤ i → M' 129 i = M 129 i)
def OLQ (lb ub : Int) (N N' : mm_) : Prop := (Fr_ qeL N N' ∧ (∀ i : Int, i ∉ qbI → N' 6 i = N 6 i)) ∧ (N 6 62 ≤ N' 6 62 ∧ N 6 63 ≤ N' 6 63 ∧ N 6 75 ≤ N' 6 75 ∧ N 6 76 ≤ N' 6 76 ∧ N 6 90 ≤ N' 6 90 ∧ N 6 104 ≤ N' 6 104)
  ∧ (∀ r i, r ∈ sq9L → 0 ≤ i → i < N 6 62 → N' r i = N r i) ∧ (∀ i, 0 ≤ i → i < N 6 63 → N' 200 i = N 200 i ∧ N' 201 i = N 201 i) ∧ (∀ i, 0 ≤ i → i < 3 * N 6 63 → N' 202 i = N 202 i) ∧ (∀ r i, r ∈ opL → 0 ≤ i → i < N 6 75 → N' r i = N r i) ∧ (∀ i, 0 ≤ i → i < 3 * N 6 75 → N' 209 i = N 209 i)
  ∧ (∀ r i, r ∈ rgR → 0 ≤ i → i < N 6 90 → N' r i = N r i) ∧ (∀ i, 0 ≤ i → i < N 6 104 → N' 227 i = N 227 i ∧ N' 228 i = N 228 i) ∧ (∀ r i, r ∈ tqL → 0 ≤ i → i < N 6 76 → N' r i = N r i) ∧ (∀ i, i < lb ∨ ub ≤ i → N' 188 i = N 188 i ∧ N' 189 i = N 189 i)
def OLD (Mx Mq M N : mm_) : Prop := OLX Mx M ∧ OLQ (10 * Mx 1 18 + Mx 1 19) (10 * Mx 1 18 + 10) Mq N
section GR
variable {M N M1 N1 M2 N2 Mx Mq : mm_} {lb ub lb' : Int}
theorem OLX_rf [Inhabited gh_] : OLX M M := ⟨⟨Fr_rf, fun _ _ => rfl, fun _ _ _ => rfl⟩, ⟨Int.le_refl _, Int.le_refl _, Int.le_refl _, Int.le_refl _⟩, fun _ _ _ => rfl, fun _ _ _ _ _ => rfl, fun _ _ _ => rfl, fun _ _ _ _ _ => rfl, fun _ _ => rfl⟩
theorem OLQ_rf [Inhabited gh_] : OLQ lb ub N N := ⟨⟨Fr_rf, fun _ _ => rfl⟩, ⟨Int.le_refl _, Int.le_refl _, Int.le_refl _, Int.le_refl _, Int.le_refl _, Int.le_refl _⟩, fun _ _ _ _ _ => rfl, fun _ _ _ => ⟨rfl, rfl⟩, fun _ _ _ => rfl, fun _ _ _ _ _ => rfl, fun _ _ _ => rfl, fun _ _ _ _ _ => rfl, fun _ _ _ => ⟨rfl, rfl⟩, fun _ _ _ _ _ => rfl, fun _ _ => ⟨rfl, rfl⟩⟩
theorem OLX_tr [Inhabited gh_] (h1 : OLX M M1) (h2 : OLX M1 M2) : OLX M M2 := by
  obtain ⟨⟨a1, a2, a3⟩, ⟨m1, m2, m3, m4⟩, a4, a5, a6, a7, a8⟩ := h1
  obtain ⟨⟨b1, b2, b3⟩, ⟨n1, n2, n3, n4⟩, b4, b5, b6, b7, b8⟩ := h2
  have e18 : M1 1 18 = M 1 18 := a2 18 (by decide)
  refine ⟨⟨Fr_tr a1 b1, fun i h => (b2 i h).trans (a2 i h), fun i h h' => (b3 i h h').trans (a3 i h h')⟩, ⟨by omega, by omega, by omega, by (clear a1 a2 a3 m1 m2 m3 a4 a5 a6 a7 a8 b1 b2 b3 n1 n2 n3 b4 b5 b6 b7 b8 e18; lia)⟩, fun i x y => (b4 i x (by omega)).trans (a4 i x y), fun r i hr x y => (b5 r i hr x (by omega)).trans (a5 r i hr x y), fun i x y => (b6 i x (by (clear a1 a2 a3 m1 m3 m4 a4 a5 a6 a7 a8 b1 b2 b3 n1 n2 n3 n4 b4 b5 b6 b7 b8 e18 x; lia))).trans (a6 i x y), fun r i hr x y => (b7 r i hr x (by (clear a1 a2 a3 m1 m2 m4 a4 a5 a6 a7 a8 b1 b2 b3 n1 n2 n3 n4 b4 b5 b6 b7 b8 e18 hr x; omega))).trans (a7 r i hr x y), fun i h => (b8 i (by rw [e18]; (clear a1 a2 a3 m1 m2 m3 a4 a5 a6 a7 a8 b1 b2 b3 n1 n2 n3 n4 b4 b5 b6 b7 b8 e18; lia))).trans (a8 i h)⟩
theorem OLQ_tr [Inhabited gh_] (hl : lb ≤ lb') (h1 : OLQ lb ub N N1) (h2 : OLQ lb' ub N1 N2) : OLQ lb ub N N2 := by
  obtain ⟨⟨a1, a2⟩, ⟨m1, m2, m3, m4, m5, m6⟩, a3, a4, a5, a6, a7, a8, a9, a10, a11⟩ := h1
  obtain ⟨⟨b1, b2⟩, ⟨n1, n2, n3, n4, n5, n6⟩, b3, b4, b5, b6, b7, b8, b9, b10, b11⟩ := h2
  refine ⟨⟨Fr_tr a1 b1, fun i h => (b2 i h).trans (a2 i h)⟩, ⟨by (clear hl a1 a2 m2 m3 m4 m5 m6 a3 a4 a5 a6 a7 a8 a9 a10 a11 b1 b2 n2 n3 n4 n5 n6 b3 b4 b5 b6 b7 b8 b9 b10 b11; lia), by omega, by (clear hl a1 a2 m1 m2 m4 m5 m6 a3 a4 a5 a6 a7 a8 a9 a10 a11 b1 b2 n1 n2 n4 n5 n6 b3 b4 b5 b6 b7 b8 b9 b10 b11; lia), by (clear hl a1 a2 m1 m2 m3 m5 m6 a3 a4 a5 a6 a7 a8 a9 a10 a11 b1 b2 n1 n2 n3 n5 n6 b3 b4 b5 b6 b7 b8 b9 b10 b11; omega), by (clear hl a1 a2 m1 m2 m3 m4 m6 a3 a4 a5 a6 a7 a8 a9 a10 a11 b1 b2 n1 n2 n3 n4 n6 b3 b4 b5 b6 b7 b8 b9 b10 b11; lia), by (clear hl a1 a2 m1 m2 m3 m4 m5 a3 a4 a5 a6 a7 a8 a9 a10 a11 b1 b2 n1 n2 n3 n4 n5 b3 b4 b5 b6 b7 b8 b9 b10 b11; omega)⟩, fun r i hr x y => (b3 r i hr x (by (clear hl a1 a2 m2 m3 m4 m5 m6 a3 a4 a5 a6 a7 a8 a9 a10 a11 b1 b2 n1 n2 n3 n4 n5 n6 b3 b4 b5 b6 b7 b8 b9 b10 b11 hr x; omega))).trans (a3 r i hr x y), fun i x y => ⟨(b4 i x (by (clear hl a1 a2 m1 m3 m4 m5 m6 a3 a4 a5 a6 a7 a8 a9 a10 a11 b1 b2 n1 n2 n3 n4 n5 n6 b3 b4 b5 b6 b7 b8 b9 b10 b11 x; omega))).1.trans (a4 i x y).1, (b4 i x (by omega)).2.trans (a4 i x y).2⟩, fun i x y => (b5 i x (by (clear hl a1 a2 m1 m3 m4 m5 m6 a3 a4 a5 a6 a7 a8 a9 a10 a11 b1 b2 n1 n2 n3 n4 n5 n6 b3 b4 b5 b6 b7 b8 b9 b10 b11 x; lia))).trans (a5 i x y), fun r i hr x y => (b6 r i hr x (by omega)).trans (a6 r i hr x y), fun i x y => (b7 i x (by (clear hl a1 a2 m1 m2 m4 m5 m6 a3 a4 a5 a6 a7 a8 a9 a10 a11 b1 b2 n1 n2 n3 n4 n5 n6 b3 b4 b5 b6 b7 b8 b9 b10 b11 x; lia))).trans (a7 i x y), fun r i hr x y => (b8 r i hr x (by (clear hl a1 a2 m1 m2 m3 m4 m6 a3 a4 a5 a6 a7 a8 a9 a10 a11 b1 b2 n1 n2 n3 n4 n5 n6 b3 b4 b5 b6 b7 b8 b9 b10 b11 hr x; omega))).trans (a8 r i hr x y), fun i x y => ⟨(b9 i x (by (clear hl a1 a2 m1 m2 m3 m4 m5 a3 a4 a5 a6 a7 a8 a9 a10 a11 b1 b2 n1 n2 n3 n4 n5 n6 b3 b4 b5 b6 b7 b8 b9 b10 b11 x; omega))).1.trans (a9 i x y).1, (b9 i x (by omega)).2.trans (a9 i x y).2⟩, fun r i hr x y => (b10 r i hr x (by (clear hl a1 a2 m1 m2 m3 m5 m6 a3 a4 a5 a6 a7 a8 a9 a10 a11 b1 b2 n1 n2 n3 n4 n5 n6 b3 b4 b5 b6 b7 b8 b9 b10 b11 hr x; lia))).trans (a10 r i hr x y), fun i h => ⟨(b11 i (by omega)).1.trans (a11 i h).1, (b11 i (by omega)).2.trans (a11 i h).2⟩⟩
theorem OLD_rf [Inhabited gh_] : OLD M N M N := ⟨OLX_rf, OLQ_rf⟩
theorem OLD_tr [Inhabited gh_] (h1 : OLD M N M1 N1) (h2 : OLD M1 N1 M2 N2) : OLD M N M2 N2 := by
  have e18 : M1 1 18 = M 1 18 := h1.1.1.2.1 18 (by decide)
  have m4 := h1.1.2.1.2.2.2
  have q := h2.2
  rw [e18] at q
  exact ⟨OLX_tr h1.1 h2.1, OLQ_tr (by omega) h1.2 q⟩
/-- X changes a stim that is not old -/
theorem OLX_u [Inhabited gh_] {r : Nat} {i v : Int} (h : OLX M M1) (hr : r ∈ st9L) (hi : M 5 4 ≤ i) : OLX M (up_ M1 r i v) := by
  obtain ⟨⟨a1, a2, a3⟩, ⟨m1, m2, m3, m4⟩, a4, a5, a6, a7, a8⟩ := h
  have e : ∀ r' : Nat, r' ∉ st9L → up_ M1 r i v r' = M1 r' := fun r' h => up_ne (fun c => h (by rw [c]; exact hr))
  have rx : ∀ r' : Nat, r' ∉ xeL → r' ∉ st9L := fun r' h c => h (by revert c; unfold st9L xeL; simp only [List.mem_cons, List.not_mem_nil, or_false]; (clear hr hi a1 a2 a3 m1 m2 m3 m4 a4 a5 a6 a7 a8 e h; lia))
  refine ⟨⟨fun r' h => (e r' (rx r' h)).trans (a1 r' h), fun j h => by rw [e 1 (by decide)]; exact a2 j h, fun j h h' => by rw [e 5 (by decide)]; exact a3 j h h'⟩, ⟨by rw [e 5 (by decide)]; exact m1, by rw [e 5 (by decide)]; exact m2, by rw [e 1 (by decide)]; exact m3, by rw [e 1 (by decide)]; exact m4⟩, fun j x y => by rw [e 142 (by decide)]; exact a4 j x y, fun r' j hr' x y => ?_, fun j x y => by rw [e 137 (by decide)]; exact a6 j x y, fun r' j hr' x y => ?_, fun j h => by rw [e 129 (by decide)]; exact a8 j h⟩
  · rw [up_of2 (by omega)]; exact a5 r' j hr' x y
  · rw [e r' (fun c => by revert c hr'; unfold st9L txL; simp only [List.mem_cons, List.not_mem_nil, or_false]; omega)]; exact a7 r' j hr' x y
/-- Q changes a stim that is not old -/
theorem OLQ_u [Inhabited gh_] {r : Nat} {i v : Int} (h : OLQ lb ub N N1) (hr : r ∈ sq9L) (hi : N 6 62 ≤ i) : OLQ lb ub N (up_ N1 r i v) := by
  obtain ⟨⟨a1, a2⟩, m, a3, a4, a5, a6, a7, a8, a9, a10, a11⟩ := h
  have e : ∀ r' : Nat, r' ∉ sq9L → up_ N1 r i v r' = N1 r' := fun r' h => up_ne (fun c => h (by rw [c]; exact hr))
  have rx : ∀ r' : Nat, r' ∉ qeL → r' ∉ sq9L := fun r' h c => h (by revert c; unfold sq9L qeL; simp only [List.mem_cons, List.not_mem_nil, or_false]; (clear hr hi a1 a2 m a3 a4 a5 a6 a7 a8 a9 a10 a11 e h; lia))
  refine ⟨⟨fun r' h => (e r' (rx r' h)).trans (a1 r' h), fun j h => by rw [e 6 (by decide)]; exact a2 j h⟩, by rw [e 6 (by decide)]; exact m, fun r' j hr' x y => ?_, fun j x y => by rw [e 200 (by decide), e 201 (by decide)]; exact a4 j x y, fun j x y => by rw [e 202 (by decide)]; exact a5 j x y, fun r' j hr' x y => ?_, fun j x y => by rw [e 209 (by decide)]; exact a7 j x y, fun r' j hr' x y => ?_, fun j x y => by rw [e 227 (by decide), e 228 (by decide)]; exact a9 j x y, fun r' j hr' x y => ?_, fun j h => by rw [e 188 (by decide), e 189 (by decide)]; exact a11 j h⟩
  · rw [up_of2 (by (clear hr a1 a2 m a3 a4 a5 a6 a7 a8 a9 a10 a11 e rx hr' x; omega))]; exact a3 r' j hr' x y
  · rw [e r' (fun c => by revert c hr'; unfold sq9L opL; simp only [List.mem_cons, List.not_mem_nil, or_false]; (clear hr hi a1 a2 m a3 a4 a5 a6 a7 a8 a9 a10 a11 e rx x y; omega))]; exact a6 r' j hr' x y
  · rw [e r' (fun c => by revert c hr'; unfold sq9L rgR; simp only [List.mem_cons, List.not_mem_nil, or_false]; (clear hr hi a1 a2 m a3 a4 a5 a6 a7 a8 a9 a10 a11 e rx x y; omega))]; exact a8 r' j hr' x y
  · rw [e r' (fun c => by revert c hr'; unfold sq9L tqL; simp only [List.mem_cons, List.not_mem_nil, or_false]; (clear hr hi a1 a2 m a3 a4 a5 a6 a7 a8 a9 a10 a11 e rx x y; omega))]; exact a10 r' j hr' x y
/-- small steps of X: only role 1, some fields -/
theorem OLX_1 [Inhabited gh_] (h : ∀ r : Nat, r ≠ 1 → M1 r = M r) (h1 : ∀ i : Int, i ∉ [3, 4, 5, 6, 7, 21, 22, 23, 34] → M1 1 i = M 1 i) : OLX M M1 := by
  refine ⟨⟨fun r hr => h r (fun c => hr (by rw [c]; decide)), fun i hi => h1 i (fun c => hi (by revert c; unfold xbI; simp only [List.mem_cons, List.not_mem_nil, or_false]; (clear h h1 hi; lia))), fun i _ _ => by rw [h 5 (by decide)]⟩, ⟨by rw [h 5 (by decide)]; exact Int.le_refl _, by rw [h 5 (by decide)]; exact Int.le_refl _, by rw [h1 29 (by decide)]; exact Int.le_refl _, by rw [h1 19 (by decide)]; exact Int.le_refl _⟩, fun i _ _ => by rw [h 142 (by decide)], fun r i hr _ _ => ?_, fun i _ _ => by rw [h 137 (by decide)], fun r i hr _ _ => ?_, fun i _ => by rw [h 129 (by decide)]⟩
  · rw [h r (fun c => by rw [c] at hr; revert hr; decide)]
  · rw [h r (fun c => by rw [c] at hr; revert hr; decide)]
/-- small steps of Q: only role 6, some fields -/
theorem OLQ_6 [Inhabited gh_] (h : ∀ r : Nat, r ≠ 6 → N1 r = N r) (h1 : ∀ i : Int, i ∉ [12, 13, 14, 15, 102, 103] → N1 6 i = N 6 i) : OLQ lb ub N N1 := by
  refine ⟨⟨fun r hr => h r (fun c => hr (by rw [c]; decide)), fun i hi => h1 i (fun c => hi (by revert c; unfold qbI; simp only [List.mem_cons, List.not_mem_nil, or_false]; (clear h h1 hi; lia)))⟩, ⟨by rw [h1 62 (by decide)]; exact Int.le_refl _, by rw [h1 63 (by decide)]; exact Int.le_refl _, by rw [h1 75 (by decide)]; exact Int.le_refl _, by rw [h1 76 (by decide)]; exact Int.le_refl _, by rw [h1 90 (by decide)]; exact Int.le_refl _, by rw [h1 104 (by decide)]; exact Int.le_refl _⟩, fun r i hr _ _ => ?_, fun i _ _ => by rw [h 200 (by decide), h 201 (by decide)]; exact ⟨rfl, rfl⟩, fun i _ _ => by rw [h 202 (by decide)], fun r i hr _ _ => ?_, fun i _ _ => by rw [h 209 (by decide)], fun r i hr _ _ => ?_, fun i _ _ => by rw [h 227 (by decide), h 228 (by decide)]; exact ⟨rfl, rfl⟩, fun r i hr _ _ => ?_, fun i _ => by rw [h 188 (by decide), h 189 (by decide)]; exact ⟨rfl, rfl⟩⟩
  · rw [h r (fun c => by rw [c] at hr; revert hr; decide)]
  · rw [h r (fun c => by rw [c] at hr; revert hr; decide)]
  · rw [h r (fun c => by rw [c] at hr; revert hr; decide)]
  · rw [h r (fun c => by rw [c] at hr; revert hr; decide)]
theorem OLX_nX [Inhabited gh_] : OLX M (nX_ M) := OLX_1 (fun r h => nX_ne h) (fun i h => nX_1 (nm_i h (by decide)))
theorem OLX_Xn [Inhabited gh_] {b k a : Int} : OLX M (Xn_ M b k a) := OLX_1 (fun r h => Xn_r h) (fun i h => Xn_1 (nm_i h (by decide)) (nm_i h (by decide)) (nm_i h (by decide)))
theorem OLQ_nx [Inhabited gh_] : OLQ lb ub N (nx_ N) := OLQ_6 (fun r h => nx_ne h) (fun i h => nx_6 (nm_i h (by decide)))
theorem OLQ_Qn [Inhabited gh_] {b k p : Int} : OLQ lb ub N (Qn_ N b k p) := OLQ_6 (fun r h => Qn_r h) (fun i h => Qn_6 (nm_i h (by decide)) (nm_i h (by decide)))
theorem OLX_SXI [Inhabited gh_] (h : SXI M M1) : OLX M M1 := by
  obtain ⟨a1, a2, a3, a4, a5, a6⟩ := h
  refine ⟨⟨Fr_sub a1 (by decide), fun i hi => a2 i (fun c => hi (by revert c; unfold xiI xbI; simp only [List.mem_cons, List.not_mem_nil, or_false]; (clear a1 a2 a3 a4 a5 a6 hi; lia))), fun i _ h4 => a3 i h4⟩, ⟨by rw [a3 3 (by decide)]; exact Int.le_refl _, a4, by rw [a2 29 (by decide)]; exact Int.le_refl _, by rw [a2 19 (by decide)]; exact Int.le_refl _⟩, fun i _ _ => by rw [a1 142 (by decide)], fun r i hr _ y => ?_, fun i _ y => a6 i y, fun r i hr _ _ => ?_, fun i _ => by rw [a1 129 (by decide)]⟩
  · by_cases c : r = 141
    · rw [c, a1 141 (by decide)]
    · exact a5 r i (by revert hr; unfold st9L stxL; simp only [List.mem_cons, List.not_mem_nil, or_false]; (clear a1 a2 a3 a4 a5 a6 y; lia)) y
  · rw [a1 r (by revert hr; unfold txL xiL; simp only [List.mem_cons, List.not_mem_nil, or_false]; (clear a1 a2 a3 a4 a5 a6; omega))]
theorem OLQ_SQI [Inhabited gh_] (h : SQI N N1) : OLQ lb ub N N1 := by
  obtain ⟨a1, a2, a4, a5, a6⟩ := h
  have e : ∀ i : Int, i = 62 ∨ i = 75 ∨ i = 76 ∨ i = 90 ∨ i = 104 → N1 6 i = N 6 i := fun i hi => a2 i (by rcases hi with c | c | c | c | c <;> rw [c] <;> decide)
  have er : ∀ r : Nat, r ∉ qiL → N1 r = N r := a1
  refine ⟨⟨Fr_sub a1 (by decide), fun i hi => a2 i (fun c => hi (by revert c; unfold qiI qbI; simp only [List.mem_cons, List.not_mem_nil, or_false]; (clear a1 a2 a4 a5 a6 e er hi; lia)))⟩, ⟨by rw [e 62 (by omega)]; exact Int.le_refl _, a4, by rw [e 75 (by omega)]; exact Int.le_refl _, by rw [e 76 (by omega)]; exact Int.le_refl _, by rw [e 90 (by omega)]; exact Int.le_refl _, by rw [e 104 (by omega)]; exact Int.le_refl _⟩, fun r i hr _ _ => ?_, fun i _ y => a5 i y, fun i _ y => a6 i y, fun r i hr _ _ => ?_, fun i _ _ => by rw [er 209 (by decide)], fun r i hr _ _ => ?_, fun i _ _ => by rw [er 227 (by decide), er 228 (by decide)]; exact ⟨rfl, rfl⟩, fun r i hr _ _ => ?_, fun i _ => by rw [er 188 (by decide), er 189 (by decide)]; exact ⟨rfl, rfl⟩⟩
  · rw [er r (by revert hr; unfold sq9L qiL; simp only [List.mem_cons, List.not_mem_nil, or_false]; (clear a1 a2 a4 a5 a6 e er; omega))]
  · rw [er r (by revert hr; unfold opL qiL; simp only [List.mem_cons, List.not_mem_nil, or_false]; (clear a1 a2 a4 a5 a6 e er; omega))]
  · rw [er r (by revert hr; unfold rgR qiL; simp only [List.mem_cons, List.not_mem_nil, or_false]; omega)]
  · rw [er r (by revert hr; unfold tqL qiL; simp only [List.mem_cons, List.not_mem_nil, or_false]; (clear a1 a2 a4 a5 a6 e er; omega))]
end GR
end T206_gr
section T207_gr
/-! growth over lines of states: what is new (second pass) -/
def nsK (N : mm_) (k : Int) : Int := if N 193 k < 2 then N 199 k - N 198 k else 1
/-- X's first stim for Q's stim n -/
def xsf (N : mm_) : Nat → Int
  | 0 => 0
  | n + 1 => xsf N n + nsK N n
/-- Q's op k and X's step c of a type T stand at the same act of a run of ops that ends -/
def ATP (M N : mm_) (T k c : Int) : Prop := ∃ (k0 k1 c0 c1 r0 r1 fe : Int) (px : Int → Int) (L : pl_), (0 ≤ k0 ∧ k1 ≤ N 6 75) ∧ (0 ≤ c0 ∧ c1 ≤ M 5 3) ∧ (0 ≤ r0 ∧ r1 ≤ N 6 90) ∧ fe ≤ N 6 104
  ∧ (∀ k, k0 ≤ k → k ≤ k1 → c0 ≤ px k ∧ px k ≤ c1) ∧ ((∀ k, L k → k0 ≤ k ∧ k ≤ k1) ∧ ¬ L k1) ∧ (∀ k, k0 ≤ k → k < k1 → OPX M N px L T c0 c1 r0 r1 k1 fe k) ∧ px k = c ∧ L k
/-- an e of IF or WHEN -/
def ASK (M N : mm_) (T c f : Int) : Prop := ∃ c1 fe, fe ≤ N 6 104 ∧ c1 + 1 ≤ M 5 3 ∧ EXP M N T c c1 f fe 2 ∧ M 142 c1 = 25
def SRO (M N : mm_) (k y i : Int) : Prop := (N 193 k ≠ 1 → ATP M N (N 192 k) (N 197 k) (M 141 y)) ∧ (N 193 k = 0 → (N 196 k = -1 ∧ M 139 y = -1) ∨ ASK M N (N 192 k) (M 139 y) (N 196 k)) ∧ (N 193 k = 2 → ASK M N (N 192 k) (M 139 y) (N 196 k) ∧ M 140 y = N 195 k) ∧ (N 193 k < 2 → RWI M N (N 192 k) y i)
/-- X's trans x and Q's trans me -/
def TRW (M N : mm_) (T l0 x me : Int) : Prop := N 211 me = T ∧ ((M 66 x = -1 ∧ N 215 me ≠ 0) ∨ (M 66 x ≠ -1 ∧ N 215 me = 0 ∧ MB (M 123 T) (M 66 x) (N 212 me))) ∧ (M 63 x = N 213 me ∧ 0 ≤ M 63 x ∧ M 63 x < wM (M 123 T)) ∧ (M 65 x = N 214 me ∧ 0 ≤ M 65 x ∧ M 65 x < 1024) ∧ (0 ≤ M 64 x ∧ M 64 x < 1024) ∧ ∀ l, 0 ≤ l → l < 10 → (bt_ (M 64 x) l ↔ l0 ≤ l ∧ l < M 1 19 ∧ N 189 (10 * T + l) = me)
def GTB (Mx Mq M N : mm_) : Prop := (0 ≤ Mx 1 22 ∧ Mx 1 22 < 1048576) → (0 ≤ M 1 22 ∧ M 1 22 < 1048576) ∧ ∀ s, 0 ≤ s → s < 20 → (bt_ (M 1 22) s ↔ bt_ (Mx 1 22) s ∨ ∃ k i, (Mq 6 62 ≤ k ∧ k < N 6 62) ∧ N 193 k = 0 ∧ (N 198 k ≤ i ∧ i < N 199 k) ∧ N 200 i = s)
def NWF (Mx Mq M N : mm_) : Prop := (∀ k, Mq 6 62 ≤ k → k < N 6 62 → ∀ j, 0 ≤ j → j < nsK N k → SRO M N k (xsf N k.toNat + j) (N 198 k + j))
  ∧ (∀ l, Mx 1 19 ≤ l → l < M 1 19 → ATP M N (Mx 1 18) (N 188 (10 * Mx 1 18 + l)) (M 129 (10 * Mx 1 18 + l)) ∧ Mq 6 76 ≤ N 189 (10 * Mx 1 18 + l) ∧ N 189 (10 * Mx 1 18 + l) < N 6 76)
  ∧ (∀ x, Mx 1 29 ≤ x → x < M 1 29 → TRW M N (Mx 1 18) (Mx 1 19) x (Mq 6 76 + (x - Mx 1 29))) ∧ SBS Mx M N (Mq 6 75) (N 6 75) ∧ GTB Mx Mq M N
/-- Q's stims are closed and in order -/
def SCL (M N : mm_) : Prop := (0 ≤ N 6 62 ∧ 0 ≤ N 6 63 ∧ 0 ≤ N 6 75 ∧ 0 ≤ N 6 76 ∧ 0 ≤ M 1 29 ∧ 0 ≤ M 1 19) ∧ (∀ k, 0 ≤ k → k < N 6 62 → 0 ≤ N 198 k ∧ N 198 k ≤ N 199 k ∧ N 199 k ≤ N 6 63) ∧ xsf N (N 6 62).toNat = M 5 4
def PRS (b : Int) (Mx Mq M N : mm_) : Prop := b = 1 → OLD Mx Mq M N ∧ M 1 29 - Mx 1 29 = N 6 76 - Mq 6 76 ∧ (N 6 13 = 0 → Mq 6 13 = 0 ∧ NWF Mx Mq M N)
section GS
variable {b : Int} {M N M1 N1 M2 N2 Mx Mq : mm_} {lb ub T k c y i x me f : Int}
theorem OLQ_tc [Inhabited gh_] (q : OLQ lb ub N N1) : tc_ T N N1 := by
  have f := q.1.1
  have g := q.1.2
  exact ⟨⟨f 171 (by decide), f 173 (by decide), f 182 (by decide), f 183 (by decide), f 184 (by decide)⟩, f 156 (by decide), f 157 (by decide), f 170 (by decide), f 174 (by decide), by rw [f 175 (by decide)], g 17 (by decide), g 18 (by decide), g 19 (by decide)⟩
theorem ATP_g [Inhabited gh_] (h : ATP M N T k c) (m : M 5 3 ≤ M1 5 3) (a4 : ∀ i, 0 ≤ i → i < M 5 3 → M1 142 i = M 142 i) (q : OLQ lb ub N N1) : ATP M1 N1 T k c := by
  obtain ⟨k0, k1, c0, c1, r0, r1, fe, px, L, h1, h2, h3, h4, h5, h6, h7, h8⟩ := h
  have tc := OLQ_tc (T := T) q
  obtain ⟨_, n, a3, _, _, a6, a7, a8, a9, _⟩ := q
  refine ⟨k0, k1, c0, c1, r0, r1, fe, px, L, by omega, by (clear a4 h1 h3 h4 h5 h6 h7 h8 tc n a3 a6 a7 a8 a9; omega), by (clear m a4 h1 h2 h4 h5 h6 h7 h8 tc a3 a6 a7 a8 a9; omega), by (clear m a4 h1 h2 h3 h5 h6 h7 h8 tc a3 a6 a7 a8 a9; omega), h5, h6, fun k x y => ?_, h8⟩
  exact OPX_c (h7 k x y) (Int.le_refl _) (Int.le_refl _) (Int.le_refl _) (Int.le_refl _) (Int.le_refl _) y (fun i p q => h5 i (by (clear m a4 h1 h2 h3 h4 h5 h6 h7 h8 tc n a3 a6 a7 a8 a9 y q; omega)) q) (fun _ _ _ => rfl) (fun _ h => h) (fun h => h) (fun i p q => a4 i (by (clear m a4 h1 h3 h4 h5 h6 h7 h8 tc n a3 a6 a7 a8 a9 x y q; omega)) (by omega)) (fun i p q => ⟨a8 216 i (by decide) (by (clear m a4 h1 h2 h4 h5 h6 h7 h8 tc n a3 a6 a7 a8 a9 x y q; omega)) (by (clear m a4 h1 h2 h4 h5 h6 h7 h8 tc n a3 a6 a7 a8 a9 x y p; omega)), a8 217 i (by decide) (by omega) (by omega), a8 218 i (by decide) (by omega) (by omega), a8 219 i (by decide) (by omega) (by omega)⟩) (fun r hr => a6 r k hr (by (clear m a4 h2 h3 h4 h5 h6 h7 h8 tc n a3 a6 a7 a8 a9 y hr; omega)) (by (clear m a4 h2 h3 h4 h5 h6 h7 h8 tc n a3 a6 a7 a8 a9 x hr; omega))) (fun i p q => a7 i (by (clear m a4 h2 h3 h4 h5 h6 h7 h8 tc n a3 a6 a7 a8 a9 y; omega)) (by (clear m a4 h2 h3 h4 h5 h6 h7 h8 tc n a3 a6 a7 a8 a9 x; omega))) (fun i p q => a9 i p (by (clear m a4 h1 h2 h3 h5 h6 h7 h8 tc n a3 a6 a7 a8 a9 x y p; omega))) tc (Int.le_refl _)
theorem ATP_c [Inhabited gh_] (h : ATP M N T k c) (o : OLX M M1) (q : OLQ lb ub N N1) : ATP M1 N1 T k c := ATP_g h o.2.1.1 o.2.2.1 q
theorem ASK_g [Inhabited gh_] (h : ASK M N T c f) (m : M 5 3 ≤ M1 5 3) (a4 : ∀ i, 0 ≤ i → i < M 5 3 → M1 142 i = M 142 i) (q : OLQ lb ub N N1) : ASK M1 N1 T c f := by
  obtain ⟨c1, fe, h1, h2, h3, h4⟩ := h
  have tc := (OLQ_tc (T := T) q).1
  obtain ⟨_, n, a3, _, _, a6, a7, a8, a9, _⟩ := q
  obtain ⟨l, e1, e2, e3, e4, e5, e6, e7⟩ := id h3
  exact ⟨c1, fe, by (clear m a4 h2 h3 h4 tc a3 a6 a7 a8 a9 e1 e2 e3 e4 e5 e6 e7; omega), by (clear a4 h1 h3 h4 tc n a3 a6 a7 a8 a9 e1 e2 e4 e5 e6 e7; omega), EXP_c h3 (fun i p q => a4 i (by (clear m a4 h1 h2 h3 h4 tc n a3 a6 a7 a8 a9 e1 e2 e3 e4 e5 e7 q; lia)) (by (clear m a4 h1 h3 h4 tc n a3 a6 a7 a8 a9 e1 e2 e4 e5 e6 e7 p; omega))) (fun i p q => a9 i (by (clear m a4 h1 h2 h3 h4 tc n a3 a6 a7 a8 a9 e1 e2 e3 e4 e6 e7 q; omega)) (by omega)) tc (Int.le_refl _), by rw [a4 c1 (by omega) (by (clear m a4 h1 h3 h4 tc n a3 a6 a7 a8 a9 e1 e2 e4 e5 e6 e7; omega))]; exact h4⟩
theorem ASK_c [Inhabited gh_] (h : ASK M N T c f) (o : OLX M M1) (q : OLQ lb ub N N1) : ASK M1 N1 T c f := ASK_g h o.2.1.1 o.2.2.1 q
theorem RWI_o [Inhabited gh_] (h : RWI M N T c i) (o : OLX M M1) (q : OLQ lb ub N N1) (hc : 0 ≤ c ∧ c < M 5 4) (hi : 0 ≤ i ∧ i < N 6 63) : RWI M1 N1 T c i := by
  obtain ⟨h0, h1, h2, h3, h4⟩ := h
  obtain ⟨_, m, a4, a5, a6, _⟩ := o
  obtain ⟨⟨f, _⟩, n, b3, b4, b5, _⟩ := q
  have u : UQI M1 c := fun y y0 y1 => by
    rw [a5 134 y (by decide) y0 (by (clear hi h0 h1 h2 h3 h4 m a4 a5 a6 f n b3 b4 b5 y0; omega)), a5 133 y (by decide) y0 (by omega), a5 136 y (by decide) y0 (by omega), a5 135 y (by decide) y0 (by omega), a5 134 c (by decide) hc.1 hc.2, a5 136 c (by decide) hc.1 hc.2, a5 135 c (by decide) hc.1 hc.2]
    exact h0 y y0 y1
  unfold RWI
  rw [(b4 i hi.1 hi.2).1, (b4 i hi.1 hi.2).2, a5 138 c (by decide) hc.1 hc.2, f 171 (by decide), f 184 (by decide), f 183 (by decide), f 156 (by decide), f 157 (by decide), f 182 (by decide)]
  exact ⟨u, h1, h2, h3, fun v x y => by rw [a6 _ (by (clear hi h0 h1 h2 h3 h4 m a4 a5 a6 f n b3 b4 b5 u y; omega)) (by (clear hi h0 h1 h4 m a4 a5 a6 f n b3 b4 b5 u x; omega)), b5 _ (by (clear hc h0 h1 h2 h3 h4 m a4 a5 a6 f n b3 b4 b5 u y; omega)) (by (clear hc h0 h1 h4 m a4 a5 a6 f n b3 b4 b5 u x; omega))]; exact h4 v x y⟩
theorem SRO_c [Inhabited gh_] (h : SRO M N k y i) (o : OLX M M1) (q : OLQ lb ub N N1) (hk : 0 ≤ k ∧ k < N 6 62) (hy : 0 ≤ y ∧ y < M 5 4) (hi : N 193 k < 2 → 0 ≤ i ∧ i < N 6 63) : SRO M1 N1 k y i := by
  have b3 := q.2.2.1
  have a5 := o.2.2.2.1
  obtain ⟨h1, h2, h3, h4⟩ := h
  unfold SRO
  rw [b3 193 k (by decide) hk.1 hk.2, b3 192 k (by decide) hk.1 hk.2, b3 197 k (by decide) hk.1 hk.2, b3 196 k (by decide) hk.1 hk.2, b3 195 k (by decide) hk.1 hk.2, a5 141 y (by decide) hy.1 hy.2, a5 139 y (by decide) hy.1 hy.2, a5 140 y (by decide) hy.1 hy.2]
  refine ⟨fun e => ATP_c (h1 e) o q, fun e => ?_, fun e => ⟨ASK_c (h3 e).1 o q, (h3 e).2⟩, fun e => RWI_o (h4 e) o q hy (hi e)⟩
  rcases h2 e with h | h
  · exact .inl h
  · exact .inr (ASK_c h o q)
theorem nsK_c [Inhabited gh_] (q : OLQ lb ub N N1) (hk : 0 ≤ k ∧ k < N 6 62) : nsK N1 k = nsK N k := by
  have b3 := q.2.2.1
  unfold nsK
  rw [b3 193 k (by decide) hk.1 hk.2, b3 198 k (by decide) hk.1 hk.2, b3 199 k (by decide) hk.1 hk.2]
theorem xsf_c [Inhabited gh_] (q : OLQ lb ub N N1) : ∀ n : Nat, (n : Int) ≤ N 6 62 → xsf N1 n = xsf N n
  | 0, _ => rfl
  | n + 1, h => by
    show xsf N1 n + nsK N1 n = xsf N n + nsK N n
    rw [xsf_c q n (by omega), nsK_c q ⟨by omega, by omega⟩]
theorem nsK_0 [Inhabited gh_] (h : SCL M N) (hk : 0 ≤ k ∧ k < N 6 62) : 0 ≤ nsK N k := by
  have := h.2.1 k hk.1 hk.2
  unfold nsK; split <;> omega
theorem xsf_m [Inhabited gh_] (h : SCL M N) : ∀ n : Nat, (n : Int) ≤ N 6 62 → 0 ≤ xsf N n ∧ ∀ m : Nat, m ≤ n → xsf N m ≤ xsf N n
  | 0, _ => ⟨Int.le_refl _, fun m hm => by rw [show m = 0 by (clear h; lia)]; exact Int.le_refl _⟩
  | n + 1, hn => by
    obtain ⟨r1, r2⟩ := xsf_m h n (by omega)
    have n0 := nsK_0 h (k := (n : Int)) ⟨by omega, by omega⟩
    have e : xsf N (n + 1) = xsf N n + nsK N n := rfl
    refine ⟨by (clear h hn r2; omega), fun m hm => ?_⟩
    by_cases c : m = n + 1
    · rw [c]; exact Int.le_refl _
    · have := r2 m (by (clear h hn r1 r2 n0 e; lia)); (clear h hn r1 r2 hm c; omega)
theorem xsf_lt [Inhabited gh_] (h : SCL M N) {j : Int} (hk : 0 ≤ k ∧ k < N 6 62) (hj : 0 ≤ j ∧ j < nsK N k) : 0 ≤ xsf N k.toNat + j ∧ xsf N k.toNat + j < M 5 4 := by
  have r1 := (xsf_m h k.toNat (by (clear h hj; omega))).1
  have r2 := (xsf_m h (N 6 62).toNat (by (clear h hj r1; omega))).2 (k.toNat + 1) (by (clear h hj r1; omega))
  have e : xsf N (k.toNat + 1) = xsf N k.toNat + nsK N k := by
    show xsf N k.toNat + nsK N (k.toNat : Int) = _
    rw [show ((k.toNat : Nat) : Int) = k by omega]
  rw [h.2.2] at r2
  (clear h hk; omega)
theorem TRW_c [Inhabited gh_] {l0 : Int} (h : TRW M N T l0 x me) (o : OLX M M1) (q : OLQ (10 * M 1 18 + M 1 19) (10 * M 1 18 + 10) N N1) (hx : 0 ≤ x ∧ x < M 1 29) (hm : 0 ≤ me ∧ me < N 6 76) (hT : T = M 1 18) (hl : ∀ l, M 1 19 ≤ l → l < M1 1 19 → N 6 76 ≤ N1 189 (10 * M 1 18 + l)) (h19 : 0 ≤ M 1 19) : TRW M1 N1 T l0 x me := by
  obtain ⟨h1, h2, h3, h4, h5, h6⟩ := h
  have a7 := o.2.2.2.2.2.1
  have a1 := o.1.1
  have m4 := o.2.1.2.2.2
  have b10 := q.2.2.2.2.2.2.2.2.2.1
  have b11 := q.2.2.2.2.2.2.2.2.2.2
  unfold TRW
  rw [b10 211 me (by decide) hm.1 hm.2, b10 215 me (by decide) hm.1 hm.2, b10 212 me (by decide) hm.1 hm.2, b10 213 me (by decide) hm.1 hm.2, b10 214 me (by decide) hm.1 hm.2, a7 66 x (by decide) hx.1 hx.2, a7 63 x (by decide) hx.1 hx.2, a7 65 x (by decide) hx.1 hx.2, a7 64 x (by decide) hx.1 hx.2, a1 123 (by decide)]
  refine ⟨h1, h2, h3, h4, h5, fun l z0 z1 => ?_⟩
  rw [h6 l z0 z1]
  by_cases c : l < M 1 19
  · rw [(b11 (10 * T + l) (.inl (by (clear o q hx hm hl h19 h1 h2 h3 h4 h5 h6 a7 a1 m4 b10 b11 z0 z1; lia)))).2]
    exact ⟨fun e => ⟨e.1, by (clear o q hx hm hT hl h19 h1 h2 h3 h4 h5 h6 a7 a1 b10 b11 z0 z1 e; omega), e.2.2⟩, fun e => ⟨e.1, c, e.2.2⟩⟩
  · constructor
    · exact fun e => absurd e.2.1 c
    · intro e
      have := hl l (by omega) e.2.1
      rw [← hT, e.2.2] at this
      omega
end GS
end T207_gr
section T208_gr
/-! growth over lines of states: transitive -/
section GT2
variable {b F : Int} {M N M1 N1 M2 N2 Mx Mq : mm_} {lb ub T k c y i x me f a mask ee : Int}
theorem SRW_x [Inhabited gh_] {xs : Int → Int} (h : SRW M N xs) (hl : 0 < N 6 62 → N 199 (N 6 62 - 1) = N 6 63) : ∀ n : Nat, (n : Int) ≤ N 6 62 → xs n = xsf N n
  | 0, _ => h.1.2.1
  | n + 1, hn => by
    have r := SRW_x h hl n (by omega)
    have e := (h.2 (n : Int) (by omega) (by omega)).1
    rw [show ((n + 1 : Nat) : Int) = (n : Int) + 1 by omega, e, r]
    show xsf N n + nSt N n = xsf N n + nsK N n
    have : nSt N (n : Int) = nsK N (n : Int) := by
      unfold nSt nsK agT
      by_cases c : (n : Int) = N 6 62 - 1
      · rw [if_pos c, c, hl (by omega)]
      · rw [if_neg c]
    rw [this]
theorem SS_SCL [Inhabited gh_] (h : SS b F M N a mask ee) (hb : b = 1) : SCL M N := by
  obtain ⟨h1, ⟨s1, s2, s3⟩, hm, h4⟩ := h
  obtain ⟨⟨xs, hs⟩, hl, hmb⟩ := h4 hb
  refine ⟨⟨s2.1, s3.1, h1.1.2.2.2.1.1, h1.2.2.2.2.1.2.1, h1.2.2.2.2.1.1.1, h1.2.2.2.2.2.2.2.2.1⟩, fun k k0 k1 => ?_, ?_⟩
  · have r := (hs.2 k k0 k1).2.2.2.1
    have e : agT N k = N 199 k := by
      unfold agT
      by_cases c : k = N 6 62 - 1
      · rw [if_pos c, c, hl (by omega)]
      · rw [if_neg c]
    rw [e] at r
    exact r
  · rw [← SRW_x hs hl _ (by omega), show (((N 6 62).toNat : Nat) : Int) = N 6 62 by (clear hb h1 s1 s3 hm h4 hs hl hmb; omega)]; exact hs.1.2.2
theorem SBS_tr [Inhabited gh_] {k0 k1 k2 : Int} (h01 : k0 ≤ k1) (h12 : k1 ≤ k2) (hk : ∀ i, k0 ≤ i → i < k1 → N2 203 i = N1 203 i ∧ N2 205 i = N1 205 i) (h1 : SBS Mx M1 N1 k0 k1) (h2 : SBS M1 M2 N2 k1 k2) : SBS Mx M2 N2 k0 k2 := by
  have aux : ∀ w s : Int, (∃ k, (k0 ≤ k ∧ k < k2) ∧ N2 203 k = w ∧ N2 205 k = s) ↔ ((∃ k, (k0 ≤ k ∧ k < k1) ∧ N1 203 k = w ∧ N1 205 k = s) ∨ ∃ k, (k1 ≤ k ∧ k < k2) ∧ N2 203 k = w ∧ N2 205 k = s) := fun w s => by
    constructor
    · rintro ⟨k, hk', e1, e2⟩
      by_cases c : k < k1
      · exact .inl ⟨k, ⟨hk'.1, c⟩, by rw [← (hk k hk'.1 c).1]; exact e1, by rw [← (hk k hk'.1 c).2]; exact e2⟩
      · exact .inr ⟨k, ⟨by omega, hk'.2⟩, e1, e2⟩
    · rintro (⟨k, hk', e1, e2⟩ | ⟨k, hk', e1, e2⟩)
      · exact ⟨k, ⟨hk'.1, by omega⟩, by rw [(hk k hk'.1 hk'.2).1]; exact e1, by rw [(hk k hk'.1 hk'.2).2]; exact e2⟩
      · exact ⟨k, ⟨by (clear h12 hk h1 h2 e1 e2; omega), hk'.2⟩, e1, e2⟩
  refine ⟨fun s s0 s1 => ?_, fun s s0 s1 => ?_⟩
  · rw [h2.1 s s0 s1, h1.1 s s0 s1, aux 2 s, or_assoc]
  · rw [h2.2 s s0 s1, h1.2 s s0 s1, aux 5 s, or_assoc]
theorem GTB_tr [Inhabited gh_] (q : OLQ lb ub N1 N2) (h0 : 0 ≤ Mq 6 62) (hm : Mq 6 62 ≤ N1 6 62) (hc : ∀ k, 0 ≤ k → k < N1 6 62 → 0 ≤ N1 198 k ∧ N1 199 k ≤ N1 6 63) (h1 : GTB Mx Mq M1 N1) (h2 : GTB M1 N1 M2 N2) : GTB Mx Mq M2 N2 := fun hg => by
  obtain ⟨e1, e2⟩ := h1 hg
  obtain ⟨f1, f2⟩ := h2 e1
  have b3 := q.2.2.1
  have b4 := q.2.2.2.1
  have m := q.2.1.1
  refine ⟨f1, fun s s0 s1 => ?_⟩
  rw [f2 s s0 s1, e2 s s0 s1]
  constructor
  · rintro ((h | ⟨k, i, hk, h3, hi, hs⟩) | ⟨k, i, hk, h3, hi, hs⟩)
    · exact .inl h
    · have := hc k (by (clear q hm hc h1 h2 hg e1 e2 f1 f2 b3 b4 m s0 s1 h3 hi hs; omega)) hk.2
      exact .inr ⟨k, i, ⟨hk.1, by (clear q h0 hm hc h1 h2 hg e1 e2 f1 f2 b3 b4 s0 s1 h3 hi hs this; lia)⟩, by rw [b3 193 k (by decide) (by omega) hk.2]; exact h3, by rw [b3 198 k (by decide) (by omega) hk.2, b3 199 k (by decide) (by omega) hk.2]; exact hi, by rw [(b4 i (by (clear q h0 hm hc h1 h2 hg e1 e2 f1 f2 b3 b4 m s0 s1 hk h3 hs; omega)) (by (clear q h0 hm hc h1 h2 hg e1 e2 f1 f2 b3 b4 m s0 s1 hk h3 hs; omega))).1]; exact hs⟩
    · exact .inr ⟨k, i, ⟨by (clear q h0 hc h1 h2 hg e1 e2 f1 f2 b3 b4 m s0 s1 h3 hi hs; omega), hk.2⟩, h3, hi, hs⟩
  · rintro (h | ⟨k, i, hk, h3, hi, hs⟩)
    · exact .inl (.inl h)
    · by_cases c : k < N1 6 62
      · have := hc k (by (clear q hm hc h1 h2 hg e1 e2 f1 f2 b3 b4 m s0 s1 h3 hi hs c; omega)) c
        rw [b3 193 k (by decide) (by omega) c] at h3
        rw [b3 198 k (by decide) (by omega) c, b3 199 k (by decide) (by omega) c] at hi
        rw [(b4 i (by omega) (by omega)).1] at hs
        exact .inl (.inr ⟨k, i, ⟨hk.1, c⟩, h3, hi, hs⟩)
      · exact .inr ⟨k, i, ⟨by omega, hk.2⟩, h3, hi, hs⟩
theorem NWF_tr [Inhabited gh_] (s0 : SCL Mx Mq) (s1 : SCL M1 N1) (o1 : OLD Mx Mq M1 N1) (e1 : M1 1 29 - Mx 1 29 = N1 6 76 - Mq 6 76) (o2 : OLD M1 N1 M2 N2) (h1 : NWF Mx Mq M1 N1) (h2 : NWF M1 N1 M2 N2) : NWF Mx Mq M2 N2 := by
  obtain ⟨a1, a2, a3, a4, a5⟩ := h1
  obtain ⟨b1, b2, b3, b4, b5⟩ := h2
  have q3 := o2.2.2.2.1
  have e18 : M1 1 18 = Mx 1 18 := o1.1.1.2.1 18 (by decide)
  have m1 := o1.2.2.1
  have mx := o1.1.2.1
  have m2 := o2.2.2.1
  have q11 := o2.2.2.2.2.2.2.2.2.2.2.2
  have x8 := o2.1.2.2.2.2.2.2
  have z0 := s0.1
  have z1 := s1.1
  rw [e18] at b2 b3 x8 q11
  refine ⟨fun k k0 k1 j j0 j1 => ?_, fun l l0 l1 => ?_, fun x x0 x1 => ?_, SBS_tr m1.2.2.1 m2.2.2.1 (fun i p q => ?_) a4 b4, GTB_tr o2.2 z0.1 m1.1 (fun k k0 k1 => ?_) a5 b5⟩
  · by_cases c : k < N1 6 62
    · have hk : 0 ≤ k ∧ k < N1 6 62 := ⟨by (clear s0 s1 o1 e1 o2 a1 a2 a3 a4 a5 b1 b2 b3 b4 b5 q3 e18 m1 mx m2 q11 x8 z1 k1 j0 j1 c; omega), c⟩
      rw [nsK_c o2.2 hk] at j1
      have y := xsf_lt s1 hk ⟨j0, j1⟩
      rw [xsf_c o2.2 _ (by (clear s0 s1 o1 e1 o2 a1 a2 a3 a4 a5 b1 b2 b3 b4 b5 q3 e18 m1 mx m2 q11 x8 z0 z1 k0 k1 j0 j1 y; omega)), q3 198 k (by decide) hk.1 hk.2]
      refine SRO_c (a1 k k0 c j j0 j1) o2.1 o2.2 hk y (fun e => ?_)
      have r := s1.2.1 k hk.1 hk.2
      unfold nsK at j1; rw [if_pos e] at j1
      (clear s0 s1 o1 e1 o2 a1 a2 a3 a4 a5 b1 b2 b3 b4 b5 q3 e18 m1 mx m2 q11 x8 z0 z1 k0 k1 c hk y e; omega)
    · exact b1 k (by (clear s0 s1 o1 e1 o2 a1 a2 a3 a4 a5 b1 b2 b3 b4 b5 q3 e18 m1 mx m2 q11 x8 z0 z1 k0 k1 j0 j1; omega)) k1 j j0 j1
  · by_cases c : l < M1 1 19
    · have := a2 l l0 c
      rw [(q11 (10 * Mx 1 18 + l) (.inl (by (clear s0 s1 o1 e1 o2 a1 a2 a3 a4 a5 b1 b2 b3 b4 b5 q3 e18 m1 mx m2 q11 x8 z0 z1 l0 l1 this; lia)))).1, (q11 (10 * Mx 1 18 + l) (.inl (by omega))).2, x8 (10 * Mx 1 18 + l) (.inl (by omega))]
      exact ⟨ATP_c this.1 o2.1 o2.2, this.2.1, by (clear s0 s1 o1 e1 o2 a1 a2 a3 a4 a5 b1 b2 b3 b4 b5 q3 e18 m1 mx q11 x8 z0 z1 l0 l1 c; omega)⟩
    · have := b2 l (by (clear s0 s1 o1 e1 o2 a1 a2 a3 a4 a5 b1 b2 b3 b4 b5 q3 e18 m1 mx m2 q11 x8 z0 z1 l0 l1; omega)) l1
      exact ⟨this.1, by (clear s0 s1 o1 e1 o2 a1 a2 a3 a4 a5 b1 b2 b3 b4 b5 q3 e18 mx m2 q11 x8 z0 z1 l0 l1 c; omega), this.2.2⟩
  · by_cases c : x < M1 1 29
    · refine TRW_c (a3 x x0 c) o2.1 o2.2 ⟨by (clear s0 s1 o1 e1 o2 a1 a2 a3 a4 a5 b1 b2 b3 b4 b5 q3 e18 m1 mx m2 q11 x8 z1 x1 c; omega), c⟩ ⟨by (clear s0 s1 o1 e1 o2 a1 a2 a3 a4 a5 b1 b2 b3 b4 b5 q3 e18 m1 mx m2 q11 x8 z1 x1 c; omega), by (clear s0 s1 o1 o2 a1 a2 a3 a4 a5 b1 b2 b3 b4 b5 q3 e18 m1 mx m2 q11 x8 z0 z1 x0 x1; omega)⟩ e18.symm (fun l l0 l1 => ?_) (by (clear s0 s1 o1 e1 o2 a1 a2 a3 a4 a5 b1 b2 b3 b4 b5 q3 e18 m1 mx m2 q11 x8 z0 x0 x1 c; omega))
      rw [e18]
      exact (b2 l l0 l1).2.1
    · have := b3 x (by (clear s0 s1 o1 o2 a1 a2 a3 a4 a5 b1 b2 b3 b4 b5 q3 e18 m1 mx m2 q11 x8 z0 z1 x0 x1; omega)) x1
      rw [show N1 6 76 + (x - M1 1 29) = Mq 6 76 + (x - Mx 1 29) by (clear s0 s1 o1 o2 a1 a2 a3 a4 a5 b1 b2 b3 b4 b5 q3 e18 m1 mx m2 q11 x8 z0 z1 x0 x1 c this; lia)] at this
      obtain ⟨t1, t2, t3, t4, t5, t6⟩ := this
      refine ⟨t1, t2, t3, t4, t5, fun l z0 z1 => ?_⟩
      rw [t6 l z0 z1]
      refine ⟨fun e => ⟨by (clear s0 s1 o1 e1 o2 a1 a2 a3 a4 a5 b1 b2 b3 b4 b5 q3 e18 m1 m2 q11 x8 x0 x1 c t1 t2 t3 t4 t5 t6 z0 z1; omega), e.2⟩, fun e => ⟨?_, e.2⟩⟩
      by_cases cl : M1 1 19 ≤ l
      · exact cl
      · have r := (a2 l e.1 (by (clear s0 s1 o1 e1 o2 a1 a2 a3 a4 a5 b1 b2 b3 b4 b5 q3 e18 m1 mx m2 q11 x8 x0 x1 c t1 t2 t3 t4 t5 t6 z0 z1 e; lia))).2.2
        have e9 := e.2.2
        rw [(q11 (10 * Mx 1 18 + l) (.inl (by (clear s0 s1 o1 e1 o2 a1 a2 a3 a4 a5 b1 b2 b3 b4 b5 q3 e18 m1 mx m2 q11 x8 x0 x1 c t1 t2 t3 t4 t5 t6 z0 z1 e r e9; lia)))).2] at e9
        (clear s0 s1 o1 o2 a1 a2 a3 a4 a5 b1 b2 b3 b4 b5 q3 e18 m1 mx m2 q11 x8 x0 x1 t1 t2 t3 t4 t5 t6 z0 z1 cl; omega)
  · have q6 := o2.2.2.2.2.2.2.1
    exact ⟨q6 203 i (by decide) (by (clear s0 s1 o1 e1 o2 a1 a2 a3 a4 a5 b1 b2 b3 b4 b5 q3 e18 m1 mx m2 q11 x8 z1 q q6; omega)) (by omega), q6 205 i (by decide) (by omega) (by omega)⟩
  · have := s1.2.1 k k0 k1; (clear s0 s1 o1 e1 o2 a1 a2 a3 a4 a5 b1 b2 b3 b4 b5 q3 e18 m1 mx m2 q11 x8 z0 z1 k0 k1; omega)
theorem PRS_tr [Inhabited gh_] (s0 : b = 1 → SCL Mx Mq) (s1 : b = 1 → SCL M1 N1) (h1 : PRS b Mx Mq M1 N1) (h2 : PRS b M1 N1 M2 N2) : PRS b Mx Mq M2 N2 := fun hb => by
  obtain ⟨o1, e1, n1⟩ := h1 hb
  obtain ⟨o2, e2, n2⟩ := h2 hb
  refine ⟨OLD_tr o1 o2, by omega, fun hz => ?_⟩
  obtain ⟨z2, f2⟩ := n2 hz
  obtain ⟨z1, f1⟩ := n1 z2
  exact ⟨z1, NWF_tr (s0 hb) (s1 hb) o1 e1 o2 f1 f2⟩
theorem NWF_rf [Inhabited gh_] : NWF M N M N := ⟨fun k a b => by omega, fun l a b => by omega, fun x a b => by omega, ⟨fun s _ _ => ⟨fun h => .inl h, fun h => by
  rcases h with h | ⟨k, h, _⟩
  · exact h
  · omega⟩, fun s _ _ => ⟨fun h => .inl h, fun h => by
  rcases h with h | ⟨k, h, _⟩
  · exact h
  · omega⟩⟩, fun h => ⟨h, fun s _ _ => ⟨fun h => .inl h, fun h => by
  rcases h with h | ⟨k, i, h, _⟩
  · exact h
  · omega⟩⟩⟩
theorem PRS_rf [Inhabited gh_] : PRS b M N M N := fun _ => ⟨OLD_rf, by omega, fun h => ⟨h, NWF_rf⟩⟩
end GT2
end T208_gr
section T209_gr
/-! growth: a trans -/
section GU
variable {b F F' : Int} {M N M1 N1 M' N' Mx Mq : mm_} {lb ub T k c y i x me f a a' mask mx st mk v kk t p : Int}
theorem ATP_s [Inhabited gh_] {k0 k1 c0 c1 r0 r1 fe j0 j1 : Int} (h : SEG M N T k0 k1 c0 c1 r0 r1 fe j0 j1 1) (hk : 0 ≤ k0 ∧ k1 ≤ N 6 75) (hc : 0 ≤ c0 ∧ c1 ≤ M 5 3) (hr : 0 ≤ r0 ∧ r1 ≤ N 6 90) (hf : fe ≤ N 6 104) : ATP M N T k0 c0 ∧ ∀ l, j0 ≤ l → l < j1 → ATP M N T (N 188 (10 * T + l)) (M 129 (10 * T + l)) := by
  obtain ⟨px, L, ⟨p0, p1, p2⟩, ⟨l0, l1, l2⟩, h3, h4⟩ := h
  refine ⟨⟨k0, k1, c0, c1, r0, r1, fe, px, L, hk, hc, hr, hf, p2, ⟨l1, l2 rfl⟩, h3, p0, l0⟩, fun l a b => ?_⟩
  have := h4 l a b
  exact ⟨k0, k1, c0, c1, r0, r1, fe, px, L, hk, hc, hr, hf, p2, ⟨l1, l2 rfl⟩, h3, this.1.symm, this.2.1⟩
theorem bt_0 [Inhabited gh_] {l : Int} : ¬ bt_ 0 l := by
  unfold bt_
  rw [show (0 : Int).toNat = 0 from rfl, Nat.zero_testBit]
  exact fun h => by cases h
/-- what a trans keeps, from ahead of its stands on -/
theorem OLD_t [Inhabited gh_] (hb : b = 1) (h0 : 0 ≤ M1 1 29) (P : PRC b F F' (sX_ M1 mx) (tM_ N1 st mk) M' N' a a' 0 0 (N1 6 76)) : OLD M1 N1 M' N' ∧ M' 1 29 = M1 1 29 + 1 ∧ N' 6 76 = N1 6 76 + 1 := by
  obtain ⟨f1, e1, ⟨xa, qa⟩, ⟨⟨c1, c2, c3, c4, c5, c6, c7⟩, d1, d2, d3, d4⟩, ⟨p1, p2, p3, p4, p5, p6⟩, l1, m1, t1, t2, t3⟩ := P
  obtain ⟨u1, u2, u3, u4, u5, u6, u7⟩ := t3 hb
  have sr : ∀ r : Nat, r ≠ 1 → r ∉ txL → sX_ M1 mx r = M1 r := fun r h1 h2 => sX_r h1 (fun e => h2 (by rw [e]; decide)) (fun e => h2 (by rw [e]; decide)) (fun e => h2 (by rw [e]; decide)) (fun e => h2 (by rw [e]; decide))
  have s1 : ∀ i : Int, i ≠ 29 → sX_ M1 mx 1 i = M1 1 i := fun i h => sX_1 h
  have s29 : sX_ M1 mx 1 29 = M1 1 29 + 1 := by unfold sX_; rw [up_at]
  have s5 : sX_ M1 mx 5 = M1 5 := sr 5 (by decide) (by decide)
  have tr : ∀ r : Nat, r ≠ 6 → r ∉ tqL → tM_ N1 st mk r = N1 r := fun r h1 h2 => tM_r h1 (fun e => h2 (by rw [e]; decide)) (fun e => h2 (by rw [e]; decide)) (fun e => h2 (by rw [e]; decide)) (fun e => h2 (by rw [e]; decide)) (fun e => h2 (by rw [e]; decide))
  have t6 : ∀ i : Int, i ≠ 76 → i ≠ 102 → i ≠ 103 → tM_ N1 st mk 6 i = N1 6 i := fun i h1 h2 h3 => tM_6 h1 h2 h3
  have t76 : tM_ N1 st mk 6 76 = N1 6 76 + 1 := by unfold tM_; rw [up_off (by decide), up_off (by decide), up_ne (by decide), up_ne (by decide), up_ne (by decide), up_ne (by decide), up_ne (by decide), up_at]
  have lc : lc_ b (sX_ M1 mx) = M1 1 19 := by unfold lc_; rw [if_neg (by (clear h0 f1 e1 xa qa c1 c2 c3 c4 c5 c6 c7 d1 d2 d3 d4 p1 p2 p3 p4 p5 p6 l1 m1 t1 t2 t3 u1 u2 u3 u4 u5 u6 u7 sr s1 s29 s5 tr t6 t76; lia)), s1 19 (by decide)]
  have lc' : lc_ b M' = M' 1 19 := by unfold lc_; rw [if_neg (by omega)]
  rw [lc, lc'] at t1
  rw [s5] at c1 p4
  rw [t6 75 (by decide) (by decide) (by decide)] at c2 c3 p2
  rw [t6 104 (by decide) (by decide) (by decide)] at c4 p3
  rw [t6 90 (by decide) (by decide) (by decide)] at c5 p5
  rw [s29] at d1
  rw [lc, s1 18 (by decide)] at d4
  rw [show M1 1 29 + 1 - 1 = M1 1 29 by (clear hb h0 f1 e1 xa qa c1 c2 c3 c4 c5 c6 c7 d1 d2 d3 d4 p1 p2 p3 p4 p5 p6 l1 m1 t1 t2 t3 u1 u2 u3 u4 u5 u6 u7 sr s1 s29 s5 tr t6 t76 lc lc'; lia)] at d1
  have x29 : M' 1 29 = M1 1 29 + 1 := by rw [xa.2.1 29 (by decide), s29]
  have q76 : N' 6 76 = N1 6 76 + 1 := by rw [qa.2 76 (by decide), t76]
  refine ⟨⟨⟨⟨fun r hr => ?_, fun i hi => ?_, fun i h3 h4 => ?_⟩, ⟨by (clear hb h0 f1 e1 xa qa c1 c2 c3 c4 c5 c6 c7 d1 d2 d3 d4 p1 p2 p3 p5 p6 l1 m1 t1 t2 t3 u1 u2 u3 u4 u5 u6 u7 sr s1 s29 s5 tr t6 t76 lc lc' x29 q76; omega), ?_, by (clear hb h0 f1 e1 xa qa c1 c2 c3 c4 c5 c6 c7 d1 d2 d3 d4 p1 p2 p3 p4 p5 p6 l1 m1 t1 t2 t3 u1 u2 u3 u4 u5 u6 u7 sr s1 s5 tr t6 t76 lc lc' q76; omega), t1⟩, fun i i0 i1 => ?_, fun r i hr i0 i1 => ?_, fun i i0 i1 => ?_, fun r i hr i0 i1 => ?_, fun i hi => ?_⟩, ⟨⟨fun r hr => ?_, fun i hi => ?_⟩, ⟨?_, ?_, p2.1, by (clear hb h0 f1 e1 xa qa c1 c2 c3 c4 c5 c6 c7 d1 d2 d3 d4 p1 p2 p3 p4 p5 p6 l1 m1 t1 t2 t3 u1 u2 u3 u4 u5 u6 u7 sr s1 s29 s5 tr t6 t76 lc lc' x29; omega), p5.1, p3.1⟩, fun r i hr i0 i1 => ?_, fun i i0 i1 => ?_, fun i i0 i1 => ?_, fun r i hr i0 i1 => ?_, fun i i0 i1 => ?_, fun r i hr i0 i1 => ?_, fun i i0 i1 => ?_, fun r i hr i0 i1 => ?_, fun i hi => ?_⟩⟩, x29, q76⟩
  · by_cases c62 : r = 62
    · rw [c62, u1, sr 62 (by decide) (by decide)]
    · by_cases c128 : r = 128
      · rw [c128, u2, sr 128 (by decide) (by decide)]
      · rw [xa.1 r (fun h => hr (by revert h; unfold xaL xeL; simp only [List.mem_cons, List.not_mem_nil, or_false]; (clear hb h0 f1 e1 xa qa c1 c2 c3 c4 c5 c6 c7 d1 d2 d3 d4 p1 p2 p3 p4 p5 p6 l1 m1 t1 t2 t3 u1 u2 u3 u4 u5 u6 u7 sr s1 s29 s5 tr t6 t76 lc lc' x29 q76 hr; lia))), sr r (fun e => hr (by rw [e]; decide)) (fun h => hr (by revert h; unfold txL xeL; simp only [List.mem_cons, List.not_mem_nil, or_false]; (clear hb h0 f1 e1 xa qa c1 c2 c3 c4 c5 c6 c7 d1 d2 d3 d4 p1 p2 p3 p4 p5 p6 l1 m1 t1 t2 t3 u1 u2 u3 u4 u5 u6 u7 sr s1 s29 s5 tr t6 t76 lc lc' x29 q76 hr c62 c128; lia)))]
  · rw [xa.2.1 i (fun h => hi (by revert h; unfold xaI xbI; simp only [List.mem_cons, List.not_mem_nil, or_false]; (clear hb h0 f1 e1 xa qa c1 c2 c3 c4 c5 c6 c7 d1 d2 d3 d4 p1 p2 p3 p4 p5 p6 l1 m1 t1 t2 t3 u1 u2 u3 u4 u5 u6 u7 sr s1 s29 s5 tr t6 t76 lc lc' x29 q76 hi; lia))), s1 i (nm_i hi (by decide))]
  · rw [xa.2.2 i h3, s5]
  · rw [xa.2.2 4 (by decide), s5]; exact Int.le_refl _
  · rw [c1 i i0 i1, sr 142 (by decide) (by decide)]
  · rw [xa.1 r (by revert hr; unfold st9L xaL; simp only [List.mem_cons, List.not_mem_nil, or_false]; (clear hb h0 f1 e1 xa qa c1 c2 c3 c4 c5 c6 c7 d1 d2 d3 d4 p1 p2 p3 p4 p5 p6 l1 m1 t1 t2 t3 u1 u2 u3 u4 u5 u6 u7 sr s1 s29 s5 tr t6 t76 lc lc' x29 q76 i0 i1; omega)), sr r (by intro e; rw [e] at hr; revert hr; decide) (by revert hr; unfold st9L txL; simp only [List.mem_cons, List.not_mem_nil, or_false]; (clear hb h0 f1 e1 xa qa c1 c2 c3 c4 c5 c6 c7 d1 d2 d3 d4 p1 p2 p3 p4 p5 p6 l1 m1 t1 t2 t3 u1 u2 u3 u4 u5 u6 u7 sr s1 s29 s5 tr t6 t76 lc lc' x29 q76 i0 i1; omega))]
  · rw [xa.1 137 (by decide), sr 137 (by decide) (by decide)]
  · have hd := d1 i (by (clear hb h0 f1 e1 xa qa c1 c2 c3 c4 c5 c6 c7 d1 d2 d3 d4 p1 p2 p3 p4 p5 p6 l1 m1 t1 t2 t3 u1 u2 u3 u4 u5 u6 u7 sr s1 s5 tr t6 t76 lc lc' q76 hr i0; omega))
    have e : ∀ r : Nat, r ∈ txL → sX_ M1 mx r i = M1 r i := fun r hr => by
      unfold sX_
      rw [up_ne (fun e => by rw [e] at hr; revert hr; decide), up_of2 (by omega), up_of2 (by omega), up_of2 (by omega), up_of2 (by omega)]
    have hr' : r = 63 ∨ r = 64 ∨ r = 65 ∨ r = 66 := by revert hr; unfold txL; simp only [List.mem_cons, List.not_mem_nil, or_false]; exact fun h => h
    rcases hr' with q | q | q | q
    · rw [q, hd.1]; exact e 63 (by decide)
    · rw [q, hd.2.1]; exact e 64 (by decide)
    · rw [q, hd.2.2]; exact e 65 (by decide)
    · rw [q, xa.1 66 (by decide)]; exact e 66 (by decide)
  · rw [(d4 i hi).1.2, sr 129 (by decide) (by decide)]
  · by_cases c175 : r = 175
    · rw [c175, u3, tr 175 (by decide) (by decide)]
    · by_cases c180 : r = 180
      · rw [c180, u4, tr 180 (by decide) (by decide)]
      · by_cases c187 : r = 187
        · rw [c187, u5, tr 187 (by decide) (by decide)]
        · rw [qa.1 r (fun h => hr (by revert h; unfold qaL qeL; simp only [List.mem_cons, List.not_mem_nil, or_false]; (clear hb h0 f1 e1 xa qa c1 c2 c3 c4 c5 c6 c7 d1 d2 d3 d4 p1 p2 p3 p4 p5 p6 l1 m1 t1 t2 t3 u1 u2 u3 u4 u5 u6 u7 sr s1 s29 s5 tr t6 t76 lc lc' x29 q76 hr; lia))), tr r (fun e => hr (by rw [e]; decide)) (fun h => hr (by revert h; unfold tqL qeL; simp only [List.mem_cons, List.not_mem_nil, or_false]; (clear hb h0 f1 e1 xa qa c1 c2 c3 c4 c5 c6 c7 d1 d2 d3 d4 p1 p2 p3 p4 p5 p6 l1 m1 t1 t2 t3 u1 u2 u3 u4 u5 u6 u7 sr s1 s29 s5 tr t6 t76 lc lc' x29 q76 hr c175 c180 c187; lia)))]
  · rw [qa.2 i (fun h => hi (by revert h; unfold qaI qbI; simp only [List.mem_cons, List.not_mem_nil, or_false]; (clear hb h0 f1 e1 xa qa c1 c2 c3 c4 c5 c6 c7 d1 d2 d3 d4 p1 p2 p3 p4 p5 p6 l1 m1 t1 t2 t3 u1 u2 u3 u4 u5 u6 u7 sr s1 s29 s5 tr t6 t76 lc lc' x29 q76 hi; lia))), t6 i (nm_i hi (by decide)) (nm_i hi (by decide)) (nm_i hi (by decide))]
  · rw [qa.2 62 (by decide), t6 62 (by decide) (by decide) (by decide)]; exact Int.le_refl _
  · rw [qa.2 63 (by decide), t6 63 (by decide) (by decide) (by decide)]; exact Int.le_refl _
  · rw [qa.1 r (by revert hr; unfold sq9L qaL; simp only [List.mem_cons, List.not_mem_nil, or_false]; (clear hb h0 f1 e1 xa qa c1 c2 c3 c4 c5 c6 c7 d1 d2 d3 d4 p1 p2 p3 p4 p5 p6 l1 m1 t1 t2 t3 u1 u2 u3 u4 u5 u6 u7 sr s1 s29 s5 tr t6 t76 lc lc' x29 q76 i0 i1; omega)), tr r (by intro e; rw [e] at hr; revert hr; decide) (by revert hr; unfold sq9L tqL; simp only [List.mem_cons, List.not_mem_nil, or_false]; omega)]
  · rw [qa.1 200 (by decide), qa.1 201 (by decide), tr 200 (by decide) (by decide), tr 201 (by decide) (by decide)]; exact ⟨rfl, rfl⟩
  · rw [qa.1 202 (by decide), tr 202 (by decide) (by decide)]
  · rw [c2 r i hr i0 i1, tr r (by intro e; rw [e] at hr; revert hr; decide) (by revert hr; unfold opL tqL; simp only [List.mem_cons, List.not_mem_nil, or_false]; (clear hb h0 f1 e1 xa qa c1 c2 c3 c4 c5 c6 c7 d1 d2 d3 d4 p1 p2 p3 p4 p5 p6 l1 m1 t1 t2 t3 u1 u2 u3 u4 u5 u6 u7 sr s1 s29 s5 tr t6 t76 lc lc' x29 q76 i0 i1; omega))]
  · rw [c3 i i0 i1, tr 209 (by decide) (by decide)]
  · rw [c5 r i hr i0 i1, tr r (by intro e; rw [e] at hr; revert hr; decide) (by revert hr; unfold rgR tqL; simp only [List.mem_cons, List.not_mem_nil, or_false]; (clear hb h0 f1 e1 xa qa c1 c2 c3 c4 c5 c6 c7 d1 d2 d3 d4 p1 p2 p3 p4 p5 p6 l1 m1 t1 t2 t3 u1 u2 u3 u4 u5 u6 u7 sr s1 s29 s5 tr t6 t76 lc lc' x29 q76 i0 i1; omega))]
  · have := c4 i i0 i1
    rw [this.1, this.2, tr 227 (by decide) (by decide), tr 228 (by decide) (by decide)]; exact ⟨rfl, rfl⟩
  · have e : ∀ r : Nat, r ∈ tqL → tM_ N1 st mk r i = N1 r i := fun r hr => by
      have h6 : r ≠ 6 := fun e => by rw [e] at hr; revert hr; decide
      unfold tM_
      rw [up_ne h6, up_ne h6, up_of2 (by (clear hb h0 f1 e1 xa qa c1 c2 c3 c4 c5 c6 c7 d1 d2 d3 d4 p1 p2 p3 p4 p5 p6 l1 m1 t1 t2 t3 u1 u2 u3 u4 u5 u6 u7 sr s1 s29 s5 tr t6 t76 lc lc' x29 i0 hr h6; omega)), up_of2 (by omega), up_of2 (by omega), up_of2 (by omega), up_of2 (by omega), up_ne h6]
    have hd := d2 i (by omega)
    have hr' : r = 211 ∨ r = 212 ∨ r = 213 ∨ r = 214 ∨ r = 215 := by revert hr; unfold tqL; simp only [List.mem_cons, List.not_mem_nil, or_false]; exact fun h => h
    rcases hr' with q | q | q | q | q
    · rw [q, qa.1 211 (by decide)]; exact e 211 (by decide)
    · rw [q, qa.1 212 (by decide)]; exact e 212 (by decide)
    · rw [q, hd.1]; exact e 213 (by decide)
    · rw [q, hd.2]; exact e 214 (by decide)
    · rw [q, qa.1 215 (by decide)]; exact e 215 (by decide)
  · have := d4 i hi
    rw [this.2.2.2.1, this.2.2.2.2, tr 188 (by decide) (by decide), tr 189 (by decide) (by decide)]; exact ⟨rfl, rfl⟩
end GU
end T209_gr
section T210_gr
/-! growth: what a trans adds -/
section GV2
variable {b F F' : Int} {M N M1 N1 M' N' Mx Mq : mm_} {lb ub T k c y i x me f a a' mask mx st mk v kk t p : Int}
theorem NEW_t [Inhabited gh_] (hb : b = 1) (h19 : 0 ≤ M1 1 19) (h53 : 0 ≤ M1 5 3) (h75 : 0 ≤ N1 6 75) (h90 : 0 ≤ N1 6 90) (h61 : N1 6 61 = M1 1 18) (hmb : (mx = -1 ∧ st ≠ 0) ∨ (mx ≠ -1 ∧ st = 0 ∧ MB (M1 123 (M1 1 18)) mx mk))
    (P : PRC b F F' (sX_ M1 mx) (tM_ N1 st mk) M' N' a a' 0 0 (N1 6 76)) (Sm : SEM b (sX_ M1 mx) (tM_ N1 st mk) M' N' v) (hv : v = 1) (hz : N' 6 13 = 0) :
    N1 6 13 = 0 ∧ ATP M' N' (M1 1 18) (N1 6 75) (M1 5 3) ∧ (∀ l, M1 1 19 ≤ l → l < M' 1 19 → ATP M' N' (M1 1 18) (N' 188 (10 * M1 1 18 + l)) (M' 129 (10 * M1 1 18 + l)) ∧ N' 189 (10 * M1 1 18 + l) = N1 6 76) ∧ TRW M' N' (M1 1 18) (M1 1 19) (M1 1 29) (N1 6 76) ∧ SBS M1 M' N' (N1 6 75) (N' 6 75) := by
  obtain ⟨z, sg, sb⟩ := Sm hb hz
  obtain ⟨f1, e1, ⟨xa, qa⟩, ⟨⟨c1, c2, c3, c4, c5, c6, c7⟩, d1, d2, d3, d4⟩, ⟨p1, p2, p3, p4, p5, p6⟩, l1, m1, t1, t2, t3⟩ := P
  obtain ⟨u1, u2, u3, u4, u5, u6, u7⟩ := t3 hb
  have s1 : ∀ i : Int, i ≠ 29 → sX_ M1 mx 1 i = M1 1 i := fun i h => sX_1 h
  have s29 : sX_ M1 mx 1 29 = M1 1 29 + 1 := by unfold sX_; rw [up_at]
  have s5 : sX_ M1 mx 5 = M1 5 := sX_r (by decide) (by decide) (by decide) (by decide) (by decide)
  have s64 : sX_ M1 mx 64 (M1 1 29) = 0 := by unfold sX_; rw [up_ne (by decide), up_ne (by decide), up_at]
  have s66 : sX_ M1 mx 66 (M1 1 29) = mx := by unfold sX_; rw [up_ne (by decide), up_ne (by decide), up_ne (by decide), up_ne (by decide), up_at]
  have t6 : ∀ i : Int, i ≠ 76 → i ≠ 102 → i ≠ 103 → tM_ N1 st mk 6 i = N1 6 i := fun i h1 h2 h3 => tM_6 h1 h2 h3
  have g211 : tM_ N1 st mk 211 (N1 6 76) = N1 6 61 := by unfold tM_; rw [up_ne (by decide), up_ne (by decide), up_ne (by decide), up_ne (by decide), up_ne (by decide), up_ne (by decide), up_at]
  have g212 : tM_ N1 st mk 212 (N1 6 76) = mk := by unfold tM_; rw [up_ne (by decide), up_ne (by decide), up_ne (by decide), up_ne (by decide), up_ne (by decide), up_at]
  have g215 : tM_ N1 st mk 215 (N1 6 76) = st := by unfold tM_; rw [up_ne (by decide), up_ne (by decide), up_ne (by decide), up_ne (by decide), up_at]
  rw [t6 13 (by decide) (by decide) (by decide)] at z
  rw [t6 61 (by decide) (by decide) (by decide), t6 75 (by decide) (by decide) (by decide), t6 90 (by decide) (by decide) (by decide), s5, s1 19 (by decide), h61, hv] at sg
  rw [t6 75 (by decide) (by decide) (by decide)] at sb
  rw [s5] at p4
  have at9 := ATP_s sg ⟨h75, Int.le_refl _⟩ ⟨h53, Int.le_refl _⟩ ⟨h90, Int.le_refl _⟩ (Int.le_refl _)
  rw [s1 18 (by decide), s1 19 (by decide)] at u6
  rw [s1 19 (by decide), s29, show M1 1 29 + 1 - 1 = M1 1 29 by (clear hb h19 h53 h75 h90 h61 hmb Sm hv hz z sg sb f1 e1 xa qa c1 c2 c3 c4 c5 c6 c7 d1 d2 d3 d4 p1 p2 p3 p4 p5 p6 l1 m1 t1 t2 t3 u1 u2 u3 u4 u5 u6 u7 s1 s29 s5 s64 s66 t6 g211 g212 g215 at9; lia), s64] at u7
  have x29 : M' 1 29 - 1 = M1 1 29 := by rw [xa.2.1 29 (by decide), s29]; omega
  have mk1 := m1.1 hb
  rw [x29] at mk1
  have x18 : M' 1 18 = M1 1 18 := by rw [xa.2.1 18 (by decide), s1 18 (by decide)]
  refine ⟨z, at9.1, fun l a b => ⟨at9.2 l a b, u6 l a b⟩, ⟨by rw [qa.1 211 (by decide), g211]; exact h61, ?_, ⟨mk1.1.1, by have z9 := mk1.1.2; rw [x18] at z9; exact z9⟩, ⟨mk1.2.1.1, mk1.2.1.2⟩, mk1.2.2, fun l l0 l1 => ?_⟩, ?_⟩
  · rw [xa.1 66 (by decide), s66, qa.1 215 (by decide), g215, qa.1 212 (by decide), g212, xa.1 123 (by decide), sX_r (by decide) (by decide) (by decide) (by decide) (by decide)]
    exact hmb
  · rw [u7 l l0 l1]
    constructor
    · rintro (h | h)
      · exact absurd h bt_0
      · exact ⟨h.1, h.2, u6 l h.1 h.2⟩
    · exact fun h => .inr ⟨h.1, h.2.1⟩
  · unfold SBS at sb ⊢
    rw [s1 21 (by decide), s1 23 (by decide)] at sb
    exact sb
end GV2
end T210_gr
section T211_gr
/-! growth: a line with a trans -/
section GW
variable {b F F' : Int} {M N M1 N1 M' N' M9 N9 Mx Mq : mm_} {a a' mask mx st mk v kk t p : Int}
theorem OLX_y [Inhabited gh_] (h : OLX M M1) (h1 : ∀ r : Nat, r ≠ 139 → r ≠ 140 → r ≠ 141 → M9 r = M1 r) (h2 : ∀ (r : Nat) i, i < M 5 4 → M9 r i = M1 r i) : OLX M M9 := by
  obtain ⟨⟨a1, a2, a3⟩, m, a4, a5, a6, a7, a8⟩ := h
  have e1 := h1 1 (by decide) (by decide) (by decide)
  have e5 := h1 5 (by decide) (by decide) (by decide)
  refine ⟨⟨fun r hr => (h1 r (fun e => hr (by rw [e]; decide)) (fun e => hr (by rw [e]; decide)) (fun e => hr (by rw [e]; decide))).trans (a1 r hr), fun i hi => by rw [e1]; exact a2 i hi, fun i h h' => by rw [e5]; exact a3 i h h'⟩, by rw [e5, e1]; exact m, fun i x y => by rw [h1 142 (by decide) (by decide) (by decide)]; exact a4 i x y, fun r i hr x y => (h2 r i y).trans (a5 r i hr x y), fun i x y => by rw [h1 137 (by decide) (by decide) (by decide)]; exact a6 i x y, fun r i hr x y => ?_, fun i hi => by rw [h1 129 (by decide) (by decide) (by decide)]; exact a8 i hi⟩
  rw [h1 r (fun e => by rw [e] at hr; revert hr; decide) (fun e => by rw [e] at hr; revert hr; decide) (fun e => by rw [e] at hr; revert hr; decide)]; exact a7 r i hr x y
theorem PRS_ln [Inhabited gh_] (hb : b = 1) (s0 : SCL Mx Mq) (o : OLD Mx Mq M1 N1) (e29 : M1 1 29 = Mx 1 29) (e19 : M1 1 19 = Mx 1 19) (e21 : M1 1 21 = Mx 1 21) (e23 : M1 1 23 = Mx 1 23) (e76 : N1 6 76 = Mq 6 76) (e75 : N1 6 75 = Mq 6 75) (h53 : 0 ≤ M1 5 3) (h90 : 0 ≤ N1 6 90) (h61 : N1 6 61 = M1 1 18) (hmb : (mx = -1 ∧ st ≠ 0) ∨ (mx ≠ -1 ∧ st = 0 ∧ MB (M1 123 (M1 1 18)) mx mk)) (z1 : N1 6 13 = 0 → Mq 6 13 = 0)
    (P : PRC b F F' (sX_ M1 mx) (tM_ N1 st mk) M' N' a a' 0 0 (N1 6 76)) (Sm : SEM b (sX_ M1 mx) (tM_ N1 st mk) M' N' v) (hv : v = 0 ∨ v = 1) (hkk : kk = if v = 0 then 6 else 0) (E3 : b = 1 → Qn_ N' b kk p 6 13 = 0 → kk = 0 ∧ N' 6 13 = 0)
    (h1 : ∀ r : Nat, r ≠ 139 → r ≠ 140 → r ≠ 141 → M9 r = Xn_ M' b kk t r) (h2 : ∀ (r : Nat) i, i < Mx 5 4 → M9 r i = Xn_ M' b kk t r i) (h9 : N9 = Qn_ N' b kk p)
    (h62 : N1 6 62 = Mq 6 62 + 1) (hst : N1 6 13 = 0 → N9 6 13 = 0 → OLX M1 (Xn_ M' b kk t) → OLQ (10 * M1 1 18 + M1 1 19) (10 * M1 1 18 + 10) N1 N9 → ATP M9 N9 (Mx 1 18) (N1 6 75) (M1 5 3) → ∀ j, 0 ≤ j → j < nsK N9 (Mq 6 62) → SRO M9 N9 (Mq 6 62) (Mx 5 4 + j) (N9 198 (Mq 6 62) + j)) (hg : N1 6 13 = 0 → N9 6 13 = 0 → OLX M1 (Xn_ M' b kk t) → OLQ (10 * M1 1 18 + M1 1 19) (10 * M1 1 18 + 10) N1 N9 → M9 1 22 = M1 1 22 → GTB Mx Mq M9 N9) : PRS b Mx Mq M9 N9 := by
  have z0 := s0.1
  obtain ⟨ot, x29, q76⟩ := OLD_t hb (by omega) P
  have o1 : OLX M1 (Xn_ M' b kk t) := OLX_tr ot.1 OLX_Xn
  have q1 : OLQ (10 * M1 1 18 + M1 1 19) (10 * M1 1 18 + 10) N1 N9 := by rw [h9]; exact OLQ_tr (Int.le_refl _) ot.2 OLQ_Qn
  have e18 : M1 1 18 = Mx 1 18 := o.1.1.2.1 18 (by decide)
  have q1' := q1
  rw [e18] at q1'
  have oX : OLX Mx M9 := OLX_y (OLX_tr o.1 o1) h1 h2
  have oD : OLD Mx Mq M9 N9 := ⟨oX, OLQ_tr (by (clear hb s0 o e29 e21 e23 e76 e75 h53 h90 h61 hmb z1 P Sm hv hkk E3 h1 h2 h9 h62 hst hg z0 ot x29 q76 o1 q1 e18 q1' oX; lia)) o.2 q1'⟩
  have y1 : ∀ i : Int, i ≠ 4 → i ≠ 5 → i ≠ 7 → M9 1 i = M' 1 i := fun i h4 h5 h7 => by rw [h1 1 (by decide) (by decide) (by decide), Xn_1 h4 h5 h7]
  have yr : ∀ r : Nat, r ≠ 1 → r ≠ 139 → r ≠ 140 → r ≠ 141 → M9 r = M' r := fun r h0 h h' h'' => by rw [h1 r h h' h'', Xn_r h0]
  have n6 : ∀ i : Int, i ≠ 13 → i ≠ 14 → N9 6 i = N' 6 i := fun i h h' => by rw [h9, Qn_6 h h']
  have nr : ∀ r : Nat, r ≠ 6 → N9 r = N' r := fun r h => by rw [h9, Qn_r h]
  refine fun _ => ⟨oD, by rw [y1 29 (by decide) (by decide) (by decide), n6 76 (by decide) (by decide)]; (clear hb s0 o e19 e21 e23 e75 h53 h90 h61 hmb z1 P Sm hv hkk E3 h1 h2 h9 h62 hst hg z0 ot o1 q1 e18 q1' oX oD y1 yr n6 nr; lia), fun hz => ?_⟩
  have ez := E3 hb (by rw [← h9]; exact hz)
  have hv1 : v = 1 := by
    rcases hv with h | h
    · rw [if_pos h] at hkk; omega
    · exact h
  obtain ⟨zz, atp, lb, tw, sb⟩ := NEW_t hb (by omega) h53 (by omega) h90 h61 hmb P Sm hv1 ez.2
  rw [e18] at atp lb tw
  have qz : OLQ 0 0 N' N9 := by rw [h9]; exact OLQ_Qn
  have up : ∀ {k c : Int}, ATP M' N' (Mx 1 18) k c → ATP M9 N9 (Mx 1 18) k c := fun h => ATP_g h (by rw [yr 5 (by decide) (by decide) (by decide) (by decide)]; exact Int.le_refl _) (fun i _ _ => by rw [yr 142 (by decide) (by decide) (by decide) (by decide)]) qz
  have x8 : nsK N9 (Mq 6 62) = nsK N9 (Mq 6 62) := rfl
  have n62 : N9 6 62 = Mq 6 62 + 1 := by
    rw [n6 62 (by decide) (by decide), P.2.2.1.2.2 62 (by decide), tM_6 (by decide) (by decide) (by decide)]; exact h62
  refine ⟨z1 zz, fun k k0 k1 j j0 j1 => ?_, fun l l0 l1 => ?_, fun x x0 x1 => ?_, ?_, hg zz hz o1 q1 (by rw [y1 22 (by decide) (by decide) (by decide), P.2.2.1.1.2.1 22 (by decide), sX_1 (by decide)])⟩
  · rw [n62] at k1
    have ek : k = Mq 6 62 := by (clear hb s0 o e29 e19 e21 e23 e76 e75 h53 h90 h61 hmb z1 P Sm hv hkk E3 h1 h2 h9 h62 hst hg z0 ot x29 q76 o1 q1 e18 q1' oX oD y1 yr n6 nr hz ez hv1 zz atp lb tw sb qz up x8 j0 j1; lia)
    rw [ek] at j1 ⊢
    rw [xsf_c oD.2 _ (by (clear hb s0 o e29 e19 e21 e23 e76 e75 h53 h90 h61 hmb z1 P Sm hv hkk E3 h1 h2 h9 h62 hst hg ot x29 q76 o1 q1 e18 q1' oX oD y1 yr n6 nr hz ez hv1 zz atp lb tw sb qz up x8 j0 j1 ek; lia)), s0.2.2]
    exact hst zz hz o1 q1 (up atp) j j0 j1
  · rw [y1 19 (by decide) (by decide) (by decide)] at l1
    have := lb l (by (clear hb s0 o e29 e21 e23 e76 e75 h53 h90 h61 hmb z1 P Sm hv hkk E3 h1 h2 h9 h62 hst hg z0 ot x29 q76 o1 q1 e18 q1' oX oD y1 yr n6 nr hz ez hv1 zz atp lb tw sb qz up x8 n62 l1; omega)) l1
    rw [nr 188 (by decide), nr 189 (by decide), yr 129 (by decide) (by decide) (by decide) (by decide), n6 76 (by decide) (by decide)]
    exact ⟨up this.1, by omega, by (clear hb s0 o e29 e19 e21 e23 e75 h53 h90 h61 hmb z1 P Sm hv hkk E3 h1 h2 h9 h62 hst hg z0 ot x29 o1 q1 e18 q1' oX oD y1 yr n6 nr hz ez hv1 zz atp lb tw sb qz up x8 n62 l0 l1; omega)⟩
  · rw [y1 29 (by decide) (by decide) (by decide)] at x1
    rw [show x = M1 1 29 by (clear hb s0 o e19 e21 e23 e76 e75 h53 h90 h61 hmb z1 P Sm hv hkk E3 h1 h2 h9 h62 hst hg z0 ot q76 o1 q1 e18 q1' oX oD y1 yr n6 nr hz ez hv1 zz atp lb tw sb qz up x8 n62; lia), show Mq 6 76 + (M1 1 29 - Mx 1 29) = N1 6 76 by (clear hb s0 o e19 e21 e23 e75 h53 h90 h61 hmb z1 P Sm hv hkk E3 h1 h2 h9 h62 hst hg z0 ot x29 q76 o1 q1 e18 q1' oX oD y1 yr n6 nr hz ez hv1 zz atp lb tw sb qz up x8 n62 x0 x1; lia)]
    rw [e19] at tw
    unfold TRW at tw ⊢
    rw [nr 211 (by decide), nr 215 (by decide), nr 212 (by decide), nr 213 (by decide), nr 214 (by decide), nr 189 (by decide), yr 66 (by decide) (by decide) (by decide) (by decide), yr 123 (by decide) (by decide) (by decide) (by decide), yr 63 (by decide) (by decide) (by decide) (by decide), yr 65 (by decide) (by decide) (by decide) (by decide), yr 64 (by decide) (by decide) (by decide) (by decide), y1 19 (by decide) (by decide) (by decide)]
    exact tw
  · unfold SBS at sb ⊢
    rw [e75] at sb
    rw [e21, e23] at sb
    rw [y1 21 (by decide) (by decide) (by decide), y1 23 (by decide) (by decide) (by decide), nr 203 (by decide), nr 205 (by decide), n6 75 (by decide) (by decide)]
    exact sb
end GW
end T211_gr
section T212_gr
/-! growth: NONE, WHEN -/
section GX
variable {b F F' : Int} {M N M1 N1 M' N' M9 N9 Mx Mq : mm_} {a a' a9 mask w s mk v kk lb ub : Int}
theorem OLX_st [Inhabited gh_] : OLX M (stX_ M w s) := by
  refine ⟨⟨fun r hr => stX_r (fun e => hr (by rw [e]; decide)) (fun h => hr (by revert h; unfold stxL xeL; simp only [List.mem_cons, List.not_mem_nil, or_false]; (clear hr; lia))), fun i _ => by rw [stX_r (by decide) (by decide)], fun i _ h4 => stX_5 h4⟩, ⟨by rw [stX_5 (by decide)]; exact Int.le_refl _, by rw [stX_54]; lia, by rw [stX_r (by decide) (by decide)]; exact Int.le_refl _, by rw [stX_r (by decide) (by decide)]; exact Int.le_refl _⟩, fun i _ _ => by rw [stX_r (by decide) (by decide)], fun r i hr _ y => ?_, fun i _ _ => by rw [stX_r (by decide) (by decide)], fun r i hr _ _ => ?_, fun i _ => by rw [stX_r (by decide) (by decide)]⟩
  · by_cases c : r = 141
    · rw [c, stX_r (by decide) (by decide)]
    · exact stX_o (by revert hr; unfold st9L stxL; simp only [List.mem_cons, List.not_mem_nil, or_false]; (clear y; lia)) (by omega)
  · rw [stX_r (fun e => by rw [e] at hr; revert hr; decide) (by revert hr; unfold txL stxL; simp only [List.mem_cons, List.not_mem_nil, or_false]; omega)]
theorem OLQ_st [Inhabited gh_] : OLQ lb ub N (stQ_ N w mk) := by
  have e : ∀ r : Nat, r ≠ 6 → r ∉ stqL → stQ_ N w mk r = N r := fun r h h' => stQ_r h h'
  refine ⟨⟨fun r hr => e r (fun e => hr (by rw [e]; decide)) (fun h => hr (by revert h; unfold stqL qeL; simp only [List.mem_cons, List.not_mem_nil, or_false]; (clear e hr; lia))), fun i hi => stQ_6 (nm_i hi (by decide))⟩, ⟨by rw [stQ_62]; omega, by rw [stQ_6 (by decide)]; exact Int.le_refl _, by rw [stQ_6 (by decide)]; exact Int.le_refl _, by rw [stQ_6 (by decide)]; exact Int.le_refl _, by rw [stQ_6 (by decide)]; exact Int.le_refl _, by rw [stQ_6 (by decide)]; exact Int.le_refl _⟩, fun r i hr _ y => stQ_o (by revert hr; unfold sq9L stqL; exact fun h => h) (by omega), fun i _ _ => by rw [e 200 (by decide) (by decide), e 201 (by decide) (by decide)]; exact ⟨rfl, rfl⟩, fun i _ _ => by rw [e 202 (by decide) (by decide)], fun r i hr _ _ => ?_, fun i _ _ => by rw [e 209 (by decide) (by decide)], fun r i hr _ _ => ?_, fun i _ _ => by rw [e 227 (by decide) (by decide), e 228 (by decide) (by decide)]; exact ⟨rfl, rfl⟩, fun r i hr _ _ => ?_, fun i _ => by rw [e 188 (by decide) (by decide), e 189 (by decide) (by decide)]; exact ⟨rfl, rfl⟩⟩
  · rw [e r (fun e => by rw [e] at hr; revert hr; decide) (by revert hr; unfold opL stqL; simp only [List.mem_cons, List.not_mem_nil, or_false]; omega)]
  · rw [e r (fun e => by rw [e] at hr; revert hr; decide) (by revert hr; unfold rgR stqL; simp only [List.mem_cons, List.not_mem_nil, or_false]; omega)]
  · rw [e r (fun e => by rw [e] at hr; revert hr; decide) (by revert hr; unfold tqL stqL; simp only [List.mem_cons, List.not_mem_nil, or_false]; omega)]
theorem OLX_X2 [Inhabited gh_] (hb : b = 1) : OLX M (X2_ b M w) := by unfold X2_; rw [if_neg (by omega)]; exact OLX_st
theorem GTB_n [Inhabited gh_] (h22 : M 1 22 = Mx 1 22) (h62 : N 6 62 = Mq 6 62 + 1) (h3 : N 193 (Mq 6 62) ≠ 0) : GTB Mx Mq M N := fun h => by
  rw [h22]
  refine ⟨h, fun s _ _ => ⟨fun h => .inl h, fun h => ?_⟩⟩
  rcases h with h | ⟨k, i, hk, h4, _⟩
  · exact h
  · rw [show k = Mq 6 62 by (clear h22 h3 h h4; omega)] at h4; exact absurd h4 h3
theorem P_none [Inhabited gh_] (h : SS b F Mx Mq a mask 0) (P : PRC b F F' (sX_ (X2_ b (nX_ (nX_ Mx)) 3) (Mx 1 34)) (tM_ (stQ_ (nx_ (nx_ Mq)) 3 mask) 0 mask) M' N' (a + 1 + 1) a' 0 0 (Mq 6 76)) (Sm : SEM b (sX_ (X2_ b (nX_ (nX_ Mx)) 3) (Mx 1 34)) (tM_ (stQ_ (nx_ (nx_ Mq)) 3 mask) 0 mask) M' N' v) (hv : v = 0 ∨ v = 1) (hkk : kk = if v = 0 then 6 else 0) (E3 : b = 1 → Qn_ N' b kk (M' 71 a') 6 13 = 0 → kk = 0 ∧ N' 6 13 = 0) : PRS b Mx Mq (X9_ b (Xn_ M' b kk a') (Mx 5 4) (Mx 5 3)) (Qn_ N' b kk (M' 71 a')) := by
  rcases bl01 (TS_E h.1) with hb | hb
  · exact fun e => by omega
  have s0 := SS_SCL h hb
  have hmb := (h.2.2.2 hb).2.2
  have hV := h.1.1.2.1
  have oX : OLX Mx (X2_ b (nX_ (nX_ Mx)) 3) := OLX_tr OLX_nX (OLX_tr OLX_nX (OLX_X2 hb))
  have oQ : OLQ (10 * Mx 1 18 + Mx 1 19) (10 * Mx 1 18 + 10) Mq (stQ_ (nx_ (nx_ Mq)) 3 mask) := OLQ_tr (Int.le_refl _) OLQ_nx (OLQ_tr (Int.le_refl _) OLQ_nx OLQ_st)
  have x1 : ∀ i : Int, i ≠ 3 → X2_ b (nX_ (nX_ Mx)) 3 1 i = Mx 1 i := fun i hi => by rw [X2_r (by decide) (by decide), nX_1 hi, nX_1 hi]
  have x53 : X2_ b (nX_ (nX_ Mx)) 3 5 3 = Mx 5 3 := by rw [X2_5 (by decide), nX_ne (by decide), nX_ne (by decide)]
  have x123 : X2_ b (nX_ (nX_ Mx)) 3 123 = Mx 123 := by rw [X2_r (by decide) (by decide), nX_ne (by decide), nX_ne (by decide)]
  have q6 : ∀ i : Int, i ≠ 12 → i ≠ 62 → stQ_ (nx_ (nx_ Mq)) 3 mask 6 i = Mq 6 i := fun i h h' => by rw [stQ_6 h', nx_6 h, nx_6 h]
  have q62 : stQ_ (nx_ (nx_ Mq)) 3 mask 6 62 = Mq 6 62 + 1 := by rw [stQ_62, nx_6 (by decide), nx_6 (by decide)]
  have st := stQ_k (N := nx_ (nx_ Mq)) (w := 3) (mk := mask)
  rw [nx_6 (i := 62) (by decide), nx_6 (i := 62) (by decide), nx_6 (i := 61) (by decide), nx_6 (i := 61) (by decide), nx_6 (i := 75) (by decide), nx_6 (i := 75) (by decide)] at st
  have q76 := q6 76 (by decide) (by decide)
  have P' := P
  rw [← q76] at P'
  have X9e : ∀ r : Nat, r ≠ 141 → X9_ b (Xn_ M' b kk a') (Mx 5 4) (Mx 5 3) r = Xn_ M' b kk a' r := fun r h => X9_r h
  have bnd := h.2.1
  refine PRS_ln hb s0 ⟨oX, oQ⟩ (x1 29 (by decide)) (x1 19 (by decide)) (x1 21 (by decide)) (x1 23 (by decide)) q76 (q6 75 (by decide) (by decide)) (by rw [x53]; have := ER_st (TS_E h.1); omega) (by rw [q6 90 (by decide) (by decide)]; exact h.1.2.2.2.2.2.2.1.1) (by rw [q6 61 (by decide) (by decide), x1 18 (by decide)]; exact hV.2.1) (.inr ⟨by have := hmb.1; (clear h P Sm hv hkk E3 hb s0 hmb hV oX oQ x1 x53 x123 q6 q62 st q76 P' X9e bnd; omega), rfl, by rw [x123, x1 18 (by decide)]; exact hmb⟩) (fun e => by rw [q6 13 (by decide) (by decide)] at e; exact e) P' Sm hv hkk E3 (fun r _ _ h1 => X9e r h1) (fun r i hi => ?_) rfl q62 (fun z1 z9 o1 q1 atp j j0 j1 => ?_) (fun z1 z9 o1 q1 e22 => ?_)
  · unfold X9_; rw [if_neg (by omega), up_of2 (by (clear h P Sm hv hkk E3 hb s0 hmb hV oX oQ x1 x53 x123 q6 q62 st q76 P' X9e bnd; omega))]
  · have b3 := q1.2.2.1
    have k1 : ∀ r : Nat, r ∈ sq9L → Qn_ N' b kk (M' 71 a') r (Mq 6 62) = stQ_ (nx_ (nx_ Mq)) 3 mask r (Mq 6 62) := fun r hr => b3 r (Mq 6 62) hr (by omega) (by rw [q62]; omega)
    have k193 := (k1 193 (by decide)).trans st.2.1
    unfold nsK at j1
    rw [k193, if_neg (by decide)] at j1
    rw [show j = 0 by (clear h P Sm hv hkk E3 hb s0 hmb hV oX oQ x1 x53 x123 q6 q62 st q76 P' X9e bnd z1 z9 o1 q1 atp b3 k1 k193; lia), show Mx 5 4 + 0 = Mx 5 4 by (clear h P Sm hv hkk E3 hb s0 hmb hV oX oQ x1 x53 x123 q6 q62 st q76 P' X9e bnd z1 z9 o1 q1 atp j0 j1 b3 k1 k193; lia)]
    unfold SRO
    rw [k193]
    refine ⟨fun _ => ?_, fun e => absurd e (by decide), fun e => absurd e (by decide), fun e => absurd e (by decide)⟩
    rw [k1 192 (by decide), st.1, k1 197 (by decide), st.2.2.2.2.2.1]
    have e141 : X9_ b (Xn_ M' b kk a') (Mx 5 4) (Mx 5 3) 141 (Mx 5 4) = Mx 5 3 := by unfold X9_; rw [if_neg (by (clear h P Sm hv hkk E3 s0 hmb hV oX oQ x1 x53 x123 q6 q62 st q76 P' X9e bnd z1 z9 o1 q1 atp j0 j1 b3 k1 k193; omega)), up_at]
    rw [e141]
    rw [q6 75 (by decide) (by decide), x53] at atp
    rw [hV.2.1]
    exact atp
  · have b3 := q1.2.2.1
    have k193 : Qn_ N' b kk (M' 71 a') 193 (Mq 6 62) = 3 := (b3 193 (Mq 6 62) (by decide) (by (clear h P Sm hv hkk E3 hb s0 hmb hV oX oQ x1 x53 x123 q6 q62 st q76 P' X9e z1 z9 o1 q1 e22 b3; omega)) (by rw [q62]; (clear h P Sm hv hkk E3 hb s0 hmb hV oX oQ x1 x53 x123 q6 q62 st q76 P' X9e bnd z1 z9 o1 q1 e22 b3; lia))).trans st.2.1
    refine GTB_n (e22.trans (x1 22 (by decide))) ?_ (by rw [k193]; decide)
    rw [Qn_6 (by decide) (by decide), P.2.2.1.2.2 62 (by decide), tM_6 (by decide) (by decide) (by decide)]; exact q62
end GX
end T212_gr
section T213_gr
/-! growth: WHEN -/
section GY
variable {b F F' : Int} {M N M1 N1 M' N' M9 N9 Mx Mq : mm_} {a a' a9 mask w s mk v kk lb ub T c f : Int}
theorem OLX_XF [Inhabited gh_] (h : XF M M1) (h53 : M 5 3 ≤ M1 5 3) (hc : ∀ i, 0 ≤ i → i < M 5 3 → M1 142 i = M 142 i) : OLX M M1 := by
  have e : ∀ r : Nat, r ≠ 1 → r ≠ 5 → r ≠ 142 → M1 r = M r := fun r h1 h5 h2 => h.1 r (by simp only [List.mem_cons, List.not_mem_nil, or_false, not_or]; exact ⟨h1, h5, h2⟩)
  refine ⟨⟨fun r hr => e r (fun c => hr (by rw [c]; decide)) (fun c => hr (by rw [c]; decide)) (fun c => hr (by rw [c]; decide)), fun i hi => h.2.1 i (nm_i hi (by decide)) (nm_i hi (by decide)) (nm_i hi (by decide)) (nm_i hi (by decide)) (nm_i hi (by decide)), fun i h3 _ => h.2.2 i h3⟩, ⟨h53, by rw [h.2.2 4 (by decide)]; exact Int.le_refl _, by rw [h.2.1 29 (by decide) (by decide) (by decide) (by decide) (by decide)]; exact Int.le_refl _, by rw [h.2.1 19 (by decide) (by decide) (by decide) (by decide) (by decide)]; exact Int.le_refl _⟩, hc, fun r i hr _ _ => ?_, fun i _ _ => by rw [e 137 (by decide) (by decide) (by decide)], fun r i hr _ _ => ?_, fun i _ => by rw [e 129 (by decide) (by decide) (by decide)]⟩
  · rw [e r (fun c => by rw [c] at hr; revert hr; decide) (fun c => by rw [c] at hr; revert hr; decide) (fun c => by rw [c] at hr; revert hr; decide)]
  · rw [e r (fun c => by rw [c] at hr; revert hr; decide) (fun c => by rw [c] at hr; revert hr; decide) (fun c => by rw [c] at hr; revert hr; decide)]
theorem OLQ_QG [Inhabited gh_] (h : QG N N1) (h104 : N 6 104 ≤ N1 6 104) (hf : ∀ i, 0 ≤ i → i < N 6 104 → N1 227 i = N 227 i ∧ N1 228 i = N 228 i) : OLQ lb ub N N1 := by
  have e : ∀ r : Nat, r ∉ [6, 227, 228, 229, 230, 231, 232, 233, 234] → N1 r = N r := h.1
  have q6 : ∀ i : Int, i = 62 ∨ i = 63 ∨ i = 75 ∨ i = 76 ∨ i = 90 → N1 6 i = N 6 i := fun i hi => h.2 i (by (clear h h104 hf e; lia)) (by omega) (by omega) (by omega) (by omega) (by omega) (by omega) (by omega) (by omega) (by omega) (by omega)
  refine ⟨⟨fun r hr => e r (fun c => hr (by revert c; unfold qeL; simp only [List.mem_cons, List.not_mem_nil, or_false]; (clear h h104 hf e q6 hr; lia))), fun i hi => h.2 i (nm_i hi (by decide)) (nm_i hi (by decide)) (nm_i hi (by decide)) (nm_i hi (by decide)) (nm_i hi (by decide)) (nm_i hi (by decide)) (nm_i hi (by decide)) (nm_i hi (by decide)) (nm_i hi (by decide)) (nm_i hi (by decide)) (nm_i hi (by decide))⟩, ⟨by rw [q6 62 (by (clear h h104 hf e q6; lia))]; exact Int.le_refl _, by rw [q6 63 (by omega)]; exact Int.le_refl _, by rw [q6 75 (by omega)]; exact Int.le_refl _, by rw [q6 76 (by omega)]; exact Int.le_refl _, by rw [q6 90 (by omega)]; exact Int.le_refl _, h104⟩, fun r i hr _ _ => ?_, fun i _ _ => by rw [e 200 (by decide), e 201 (by decide)]; exact ⟨rfl, rfl⟩, fun i _ _ => by rw [e 202 (by decide)], fun r i hr _ _ => ?_, fun i _ _ => by rw [e 209 (by decide)], fun r i hr _ _ => ?_, hf, fun r i hr _ _ => ?_, fun i _ => by rw [e 188 (by decide), e 189 (by decide)]; exact ⟨rfl, rfl⟩⟩
  · rw [e r (by revert hr; unfold sq9L; simp only [List.mem_cons, List.not_mem_nil, or_false]; omega)]
  · rw [e r (by revert hr; unfold opL; simp only [List.mem_cons, List.not_mem_nil, or_false]; omega)]
  · rw [e r (by revert hr; unfold rgR; simp only [List.mem_cons, List.not_mem_nil, or_false]; omega)]
  · rw [e r (by revert hr; unfold tqL; simp only [List.mem_cons, List.not_mem_nil, or_false]; omega)]
theorem OLX_pX [Inhabited gh_] {v : Int} (h53 : M 5 3 < 12000) : OLX M (pX_ M v) ∧ (M 1 8 ≠ 0 → pX_ M v 142 (M 5 3) = v ∧ pX_ M v 5 3 = M 5 3 + 1) := by
  refine ⟨OLX_XF pX_XF ?_ (fun i _ hi => ?_), fun h => ?_⟩
  · unfold pX_; split
    · exact Int.le_refl _
    · rw [up_at]; (clear h53; lia)
  · unfold pX_; split
    · rfl
    · rw [up_ne (by decide), up_of2 (by omega)]
  · unfold pX_; rw [if_neg h]
    rw [up_ne (by decide), up_at, up_at]; exact ⟨rfl, rfl⟩
/-- an e of IF or WHEN, behind its end -/
theorem ASK_w [Inhabited gh_] (hb : b = 1) {aa a1 : Int} (h : WR b F M N M1 N1 a1 aa 0 1) (h8 : M1 1 8 = 1) (hz : N1 6 13 = 0) (h12 : M1 5 3 < 12000) : N 6 13 = 0 ∧ ASK (pX_ M1 25) N1 (N 6 61) (M 5 3) (N 6 104) := by
  obtain ⟨w1, w2, w3, w4, w5, w6, w7, w8, w9, w10⟩ := h
  obtain ⟨z, t, ht, ex⟩ := w10 hb hz
  rw [ht (by decide)] at ex
  have p := OLX_pX (M := M1) (v := 25) h12
  obtain ⟨p1, p2⟩ := p.2 (by omega)
  obtain ⟨l, e1, e2, e3, e4, e5, e6, e7⟩ := id ex
  exact ⟨z, M1 5 3, N1 6 104, Int.le_refl _, by (clear hb h8 hz h12 w1 w2 w3 w4 w5 w6 w7 w8 w9 w10 z ht ex p p1 e1 e2 e3 e4 e5 e6 e7; omega), EXP_c ex (fun i x y => p.1.2.2.1 i (by (clear hb h8 hz h12 w1 w2 w3 w4 w5 w6 w7 w8 w9 w10 z ht ex p p1 e1 e2 e4 e5 e7 y; omega)) y) (fun _ _ _ => ⟨rfl, rfl⟩) tb_rf (Int.le_refl _), p1⟩
theorem ASK_e [Inhabited gh_] (h : ASK M N T c f) (h142 : M1 142 = M 142) (h53 : M1 5 3 = M 5 3) (hr : ∀ r : Nat, r ≠ 6 → r ∉ sq9L → N1 r = N r) (h104 : N1 6 104 = N 6 104) : ASK M1 N1 T c f := by
  obtain ⟨c1, fe, h1, h2, h3, h4⟩ := h
  exact ⟨c1, fe, by omega, by omega, EXP_c h3 (fun i _ _ => by rw [h142]) (fun i _ _ => by rw [hr 227 (by decide) (by decide), hr 228 (by decide) (by decide)]; exact ⟨rfl, rfl⟩) ⟨hr 171 (by decide) (by decide), hr 173 (by decide) (by decide), hr 182 (by decide) (by decide), hr 183 (by decide) (by decide), hr 184 (by decide) (by decide)⟩ (Int.le_refl _), by rw [h142]; exact h4⟩
theorem P_when [Inhabited gh_] (h : SS b F Mx Mq a mask 0) (hw : WHF b F F' Mx Mq a mask M9 N9 a9) : PRS b Mx Mq M9 N9 := by
  rcases bl01 (TS_E h.1) with hb | hb
  · exact fun e => by omega
  obtain ⟨Ma, Na, Mb, Nb, aa, ab, pr, M', N', v, kk, hWR, ⟨hab, xfb, b5, b142, hcase⟩, P, Sm, hv, hkk, E3, e9, n9⟩ := hw
  have s0 := SS_SCL h hb
  have hmb := (h.2.2.2 hb).2.2
  have hV := h.1.1.2.1
  have bnd := h.2.1
  have wr := hWR
  obtain ⟨w1, w2, w3, w4, w5, w6, w7, w8, w9, w10⟩ := wr
  have st := stQ_k (N := nx_ Mq) (w := 2) (mk := mask)
  rw [nx_6 (i := 62) (by decide), nx_6 (i := 61) (by decide)] at st
  have x2 : ∀ i : Int, i ≠ 3 → X2_ b (nX_ Mx) 2 1 i = Mx 1 i := fun i hi => by rw [X2_r (by decide) (by decide), nX_1 hi]
  have x53 : X2_ b (nX_ Mx) 2 5 3 = Mx 5 3 := by rw [X2_5 (by decide), nX_ne (by decide)]
  have ma53 : Ma 5 3 < 12000 := (ER_st w4).2
  have pX := OLX_pX (M := Ma) (v := 25) ma53
  have oa : OLX Mx Ma := OLX_tr OLX_nX (OLX_tr (OLX_X2 hb) (OLX_XF w2 w7.1 w8))
  have ob : OLX (pX_ Ma 25) Mb := OLX_XF xfb (by rw [b5]; exact Int.le_refl _) (fun i _ _ => by rw [b142])
  have oX : OLX Mx (nX_ Mb) := OLX_tr oa (OLX_tr pX.1 (OLX_tr ob OLX_nX))
  have y1 : ∀ i : Int, i = 18 ∨ i = 19 ∨ i = 21 ∨ i = 22 ∨ i = 23 ∨ i = 29 ∨ i = 34 → nX_ Mb 1 i = Mx 1 i := fun i hi => by
    rw [nX_1 (by (clear h hb hWR hab xfb b5 b142 hcase P Sm hv hkk E3 e9 n9 s0 hmb hV bnd w1 w2 w3 w4 w5 w6 w7 w8 w9 w10 st x2 x53 ma53 pX oa ob oX; lia)), xfb.2.1 i (by omega) (by (clear h hb hWR hab xfb b5 b142 hcase P Sm hv hkk E3 e9 n9 s0 hmb hV bnd w1 w2 w3 w4 w5 w6 w7 w8 w9 w10 st x2 x53 ma53 pX oa ob oX; lia)) (by (clear h hb hWR hab xfb b5 b142 hcase P Sm hv hkk E3 e9 n9 s0 hmb hV bnd w1 w2 w3 w4 w5 w6 w7 w8 w9 w10 st x2 x53 ma53 pX oa ob oX; lia)) (by (clear h hb hWR hab xfb b5 b142 hcase P Sm hv hkk E3 e9 n9 s0 hmb hV bnd w1 w2 w3 w4 w5 w6 w7 w8 w9 w10 st x2 x53 ma53 pX oa ob oX; lia)) (by omega), pX_1, w2.2.1 i (by omega) (by omega) (by omega) (by omega) (by omega), x2 i (by omega)]
  have b34 : Mb 1 34 = Mx 1 34 := by rw [← y1 34 (by (clear h hb hWR hab xfb b5 b142 hcase P Sm hv hkk E3 e9 n9 s0 hmb hV bnd w1 w2 w3 w4 w5 w6 w7 w8 w9 w10 st x2 x53 ma53 pX oa ob oX y1; omega)), nX_1 (by decide)]
  have qa : OLQ (10 * Mx 1 18 + Mx 1 19) (10 * Mx 1 18 + 10) Mq Na := OLQ_tr (Int.le_refl _) OLQ_nx (OLQ_tr (Int.le_refl _) OLQ_st (OLQ_QG w3 (by (clear h hb hWR hab xfb b5 b142 hcase P Sm hv hkk E3 e9 n9 s0 hmb hV bnd w1 w2 w3 w4 w6 w7 w8 w9 w10 st x2 x53 ma53 pX oa ob oX y1 b34; omega)) w6))
  have q0 : OLQ (10 * Mx 1 18 + Mx 1 19) (10 * Mx 1 18 + 10) Mq (up_ Na 196 (Mq 6 62) (Mq 6 104)) := OLQ_u qa (by decide) (Int.le_refl _)
  have qb : OLQ (10 * Mx 1 18 + Mx 1 19) (10 * Mx 1 18 + 10) Mq Nb := by
    rcases hcase with ⟨_, _, q⟩ | ⟨_, q⟩
    · rw [q]; exact q0
    · rw [q]; exact OLQ_u (OLQ_tr (Int.le_refl _) q0 (OLQ_tr (Int.le_refl _) OLQ_nx OLQ_nx)) (by decide) (Int.le_refl _)
  have oQ : OLQ (10 * Mx 1 18 + Mx 1 19) (10 * Mx 1 18 + 10) Mq (up_ (nx_ Nb) 197 (Mq 6 62) (Nb 6 75)) := OLQ_u (OLQ_tr (Int.le_refl _) qb OLQ_nx) (by decide) (Int.le_refl _)
  have nb6 : ∀ i : Int, i ≠ 12 → Nb 6 i = Na 6 i := fun i hi => by
    rcases hcase with ⟨_, _, q⟩ | ⟨_, q⟩
    · rw [q, up_ne (by decide)]
    · rw [q, up_ne (by decide), nx_6 hi, nx_6 hi, up_ne (by decide)]
  have nbr : ∀ r : Nat, r ≠ 6 → r ≠ 195 → r ≠ 196 → Nb r = Na r := fun r h6 h5 h7 => by
    rcases hcase with ⟨_, _, q⟩ | ⟨_, q⟩
    · rw [q, up_ne h7]
    · rw [q, up_ne h5, nx_ne h6, nx_ne h6, up_ne h7]
  have nb196 : Nb 196 (Mq 6 62) = Mq 6 104 := by
    rcases hcase with ⟨_, _, q⟩ | ⟨_, q⟩
    · rw [q, up_at]
    · rw [q, up_ne (by decide), nx_ne (by decide), nx_ne (by decide), up_at]
  have na6 : ∀ i : Int, i = 13 ∨ i = 61 ∨ i = 75 ∨ i = 76 ∨ i = 90 → stQ_ (nx_ Mq) 2 mask 6 i = Mq 6 i := fun i hi => by rw [stQ_6 (by (clear h hb hWR hab xfb b5 b142 hcase P Sm hv hkk E3 e9 n9 s0 hmb hV bnd w1 w2 w3 w4 w5 w6 w7 w8 w9 w10 st x2 x53 ma53 pX oa ob oX y1 b34 qa q0 qb oQ nb6 nbr nb196; lia)), nx_6 (by (clear h hb hWR hab xfb b5 b142 hcase P Sm hv hkk E3 e9 n9 s0 hmb hV bnd w1 w2 w3 w4 w5 w6 w7 w8 w9 w10 st x2 x53 ma53 pX oa ob oX y1 b34 qa q0 qb oQ nb6 nbr nb196; lia))]
  have na7 : ∀ i : Int, i = 61 ∨ i = 75 ∨ i = 76 ∨ i = 90 → Na 6 i = Mq 6 i := fun i hi => by rw [w3.2 i (by (clear h hb hWR hab xfb b5 b142 hcase P Sm hv hkk E3 e9 n9 s0 hmb hV bnd w1 w2 w3 w4 w5 w6 w7 w8 w9 w10 st x2 x53 ma53 pX oa ob oX y1 b34 qa q0 qb oQ nb6 nbr nb196 na6; lia)) (by (clear h hb hWR hab xfb b5 b142 hcase P Sm hv hkk E3 e9 n9 s0 hmb hV bnd w1 w2 w3 w4 w5 w6 w7 w8 w9 w10 st x2 x53 ma53 pX oa ob oX y1 b34 qa q0 qb oQ nb6 nbr nb196 na6; lia)) (by (clear h hb hWR hab xfb b5 b142 hcase P Sm hv hkk E3 e9 n9 s0 hmb hV bnd w1 w2 w3 w4 w5 w6 w7 w8 w9 w10 st x2 x53 ma53 pX oa ob oX y1 b34 qa q0 qb oQ nb6 nbr nb196 na6; lia)) (by (clear h hb hWR hab xfb b5 b142 hcase P Sm hv hkk E3 e9 n9 s0 hmb hV bnd w1 w2 w3 w4 w5 w6 w7 w8 w9 w10 st x2 x53 ma53 pX oa ob oX y1 b34 qa q0 qb oQ nb6 nbr nb196 na6; lia)) (by (clear h hb hWR hab xfb b5 b142 hcase P Sm hv hkk E3 e9 n9 s0 hmb hV bnd w1 w2 w3 w4 w5 w6 w7 w8 w9 w10 st x2 x53 ma53 pX oa ob oX y1 b34 qa q0 qb oQ nb6 nbr nb196 na6; lia)) (by (clear h hb hWR hab xfb b5 b142 hcase P Sm hv hkk E3 e9 n9 s0 hmb hV bnd w1 w2 w3 w4 w5 w6 w7 w8 w9 w10 st x2 x53 ma53 pX oa ob oX y1 b34 qa q0 qb oQ nb6 nbr nb196 na6; lia)) (by (clear h hb hWR hab xfb b5 b142 hcase P Sm hv hkk E3 e9 n9 s0 hmb hV bnd w1 w2 w3 w4 w5 w6 w7 w8 w9 w10 st x2 x53 ma53 pX oa ob oX y1 b34 qa q0 qb oQ nb6 nbr nb196 na6; lia)) (by (clear h hb hWR hab xfb b5 b142 hcase P Sm hv hkk E3 e9 n9 s0 hmb hV bnd w1 w2 w3 w4 w5 w6 w7 w8 w9 w10 st x2 x53 ma53 pX oa ob oX y1 b34 qa q0 qb oQ nb6 nbr nb196 na6; lia)) (by (clear h hb hWR hab xfb b5 b142 hcase P Sm hv hkk E3 e9 n9 s0 hmb hV bnd w1 w2 w3 w4 w5 w6 w7 w8 w9 w10 st x2 x53 ma53 pX oa ob oX y1 b34 qa q0 qb oQ nb6 nbr nb196 na6; lia)) (by (clear h hb hWR hab xfb b5 b142 hcase P Sm hv hkk E3 e9 n9 s0 hmb hV bnd w1 w2 w3 w4 w5 w6 w7 w8 w9 w10 st x2 x53 ma53 pX oa ob oX y1 b34 qa q0 qb oQ nb6 nbr nb196 na6; lia)) (by (clear h hb hWR hab xfb b5 b142 hcase P Sm hv hkk E3 e9 n9 s0 hmb hV bnd w1 w2 w3 w4 w5 w6 w7 w8 w9 w10 st x2 x53 ma53 pX oa ob oX y1 b34 qa q0 qb oQ nb6 nbr nb196 na6; lia)), na6 i (by (clear h hb hWR hab xfb b5 b142 hcase P Sm hv hkk E3 e9 n9 s0 hmb hV bnd w1 w2 w3 w4 w5 w6 w7 w8 w9 w10 st x2 x53 ma53 pX oa ob oX y1 b34 qa q0 qb oQ nb6 nbr nb196 na6; lia))]
  have n16 : ∀ i : Int, i = 61 ∨ i = 75 ∨ i = 76 ∨ i = 90 → up_ (nx_ Nb) 197 (Mq 6 62) (Nb 6 75) 6 i = Mq 6 i := fun i hi => by rw [up_ne (by decide), nx_6 (by omega), nb6 i (by omega), na7 i hi]
  have n13 : up_ (nx_ Nb) 197 (Mq 6 62) (Nb 6 75) 6 13 = Na 6 13 := by rw [up_ne (by decide), nx_6 (by decide), nb6 13 (by decide)]
  have na62 : Na 6 62 = Mq 6 62 + 1 := by rw [w3.2 62 (by decide) (by decide) (by decide) (by decide) (by decide) (by decide) (by decide) (by decide) (by decide) (by decide) (by decide), stQ_62, nx_6 (by decide)]
  have q62 : up_ (nx_ Nb) 197 (Mq 6 62) (Nb 6 75) 6 62 = Mq 6 62 + 1 := by rw [up_ne (by decide), nx_6 (by decide), nb6 62 (by decide), na62]
  have nar : ∀ r : Nat, r ∈ sq9L → Na r = stQ_ (nx_ Mq) 2 mask r := fun r hr => w3.1 r (by revert hr; unfold sq9L; simp only [List.mem_cons, List.not_mem_nil, or_false]; (clear h hb hWR hab xfb b5 b142 hcase P Sm hv hkk E3 e9 n9 s0 hmb hV bnd w1 w2 w3 w4 w5 w6 w7 w8 w9 w10 st x2 x53 ma53 pX oa ob oX y1 b34 qa q0 qb oQ nb6 nbr nb196 na6 na7 n16 n13 na62 q62; omega))
  have k19 : ∀ r : Nat, r = 192 ∨ r = 193 → up_ (nx_ Nb) 197 (Mq 6 62) (Nb 6 75) r (Mq 6 62) = stQ_ (nx_ Mq) 2 mask r (Mq 6 62) := fun r hr => by
    rw [up_ne (by (clear h hb hWR hab xfb b5 b142 hcase P Sm hv hkk E3 e9 n9 s0 hmb hV bnd w1 w2 w3 w4 w5 w6 w7 w8 w9 w10 st x2 x53 ma53 pX oa ob oX y1 b34 qa q0 qb oQ nb6 nbr nb196 na6 na7 n16 n13 na62 q62 nar; lia)), nx_ne (by (clear h hb hWR hab xfb b5 b142 hcase P Sm hv hkk E3 e9 n9 s0 hmb hV bnd w1 w2 w3 w4 w5 w6 w7 w8 w9 w10 st x2 x53 ma53 pX oa ob oX y1 b34 qa q0 qb oQ nb6 nbr nb196 na6 na7 n16 n13 na62 q62 nar; lia)), nbr r (by omega) (by (clear h hb hWR hab xfb b5 b142 hcase P Sm hv hkk E3 e9 n9 s0 hmb hV bnd w1 w2 w3 w4 w5 w6 w7 w8 w9 w10 st x2 x53 ma53 pX oa ob oX y1 b34 qa q0 qb oQ nb6 nbr nb196 na6 na7 n16 n13 na62 q62 nar; lia)) (by (clear h hb hWR hab xfb b5 b142 hcase P Sm hv hkk E3 e9 n9 s0 hmb hV bnd w1 w2 w3 w4 w5 w6 w7 w8 w9 w10 st x2 x53 ma53 pX oa ob oX y1 b34 qa q0 qb oQ nb6 nbr nb196 na6 na7 n16 n13 na62 q62 nar; lia)), nar r (by rcases hr with q | q <;> rw [q] <;> decide)]
  have k195 : up_ (nx_ Nb) 197 (Mq 6 62) (Nb 6 75) 195 (Mq 6 62) = pr := by
    rw [up_ne (by decide), nx_ne (by decide)]
    rcases hcase with ⟨_, ep, q⟩ | ⟨_, q⟩
    · rw [q, up_ne (by decide), nar 195 (by decide), ep]; exact st.2.2.2.1
    · rw [q, up_at]
  have n75 : Nb 6 75 = Mq 6 75 := by rw [nb6 75 (by decide), na7 75 (by (clear h hb hWR hab xfb b5 b142 hcase P Sm hv hkk E3 e9 n9 s0 hmb hV bnd w1 w2 w3 w4 w5 w6 w7 w8 w9 w10 st x2 x53 ma53 pX oa ob oX y1 b34 qa q0 qb oQ nb6 nbr nb196 na6 na7 n16 n13 na62 q62 nar k19 k195; lia))]
  have n76 := n16 76 (by omega)
  have P' := P
  have e76 : Nb 6 76 = up_ (nx_ Nb) 197 (Mq 6 62) (Nb 6 75) 6 76 := by rw [n76, nb6 76 (by decide), na7 76 (by omega)]
  rw [e76] at P'
  have m53 : nX_ Mb 5 3 = Mb 5 3 := by rw [nX_ne (by decide)]
  have m123 : nX_ Mb 123 = Mx 123 := oX.1.1 123 (by decide)
  have e9' : ∀ r : Nat, r ≠ 139 → r ≠ 140 → r ≠ 141 → M9 r = Xn_ M' b kk a9 r := fun r h1 h2 h3 => by rw [e9]; exact Xw_r h1 h2 h3
  have ew : M9 = up_ (up_ (up_ (Xn_ M' b kk a9) 139 (Mx 5 4) (Mx 5 3)) 140 (Mx 5 4) pr) 141 (Mx 5 4) (Mb 5 3) := by rw [e9]; unfold Xw_; rw [if_neg (by omega), if_neg (by (clear h hWR hab xfb b5 b142 hcase P Sm hv hkk E3 e9 n9 s0 hmb hV bnd w1 w2 w3 w4 w5 w6 w7 w8 w9 w10 st x2 x53 ma53 pX oa ob oX y1 b34 qa q0 qb oQ nb6 nbr nb196 na6 na7 n16 n13 na62 q62 nar k19 k195 n75 n76 P' e76 m53 m123 e9'; lia))]
  refine PRS_ln hb s0 ⟨oX, oQ⟩ (y1 29 (by (clear h hb hWR hab xfb b5 b142 hcase P Sm hv hkk E3 e9 n9 s0 hmb hV bnd w1 w2 w3 w4 w5 w6 w7 w8 w9 w10 st x2 x53 ma53 pX oa ob oX y1 b34 qa q0 qb oQ nb6 nbr nb196 na6 na7 n16 n13 na62 q62 nar k19 k195 n75 n76 P' e76 m53 m123 e9' ew; lia))) (y1 19 (by (clear h hb hWR hab xfb b5 b142 hcase P Sm hv hkk E3 e9 n9 s0 hmb hV bnd w1 w2 w3 w4 w5 w6 w7 w8 w9 w10 st x2 x53 ma53 pX oa ob oX y1 b34 qa q0 qb oQ nb6 nbr nb196 na6 na7 n16 n13 na62 q62 nar k19 k195 n75 n76 P' e76 m53 m123 e9' ew; lia))) (y1 21 (by (clear h hb hWR hab xfb b5 b142 hcase P Sm hv hkk E3 e9 n9 s0 hmb hV bnd w1 w2 w3 w4 w5 w6 w7 w8 w9 w10 st x2 x53 ma53 pX oa ob oX y1 b34 qa q0 qb oQ nb6 nbr nb196 na6 na7 n16 n13 na62 q62 nar k19 k195 n75 n76 P' e76 m53 m123 e9' ew; lia))) (y1 23 (by (clear h hb hWR hab xfb b5 b142 hcase P Sm hv hkk E3 e9 n9 s0 hmb hV bnd w1 w2 w3 w4 w5 w6 w7 w8 w9 w10 st x2 x53 ma53 pX oa ob oX y1 b34 qa q0 qb oQ nb6 nbr nb196 na6 na7 n16 n13 na62 q62 nar k19 k195 n75 n76 P' e76 m53 m123 e9' ew; lia))) n76 (n16 75 (by omega)) (by have := oX.2.1.1; have := ER_st (TS_E h.1); (clear h hb hWR hab xfb b5 b142 hcase P Sm hv hkk E3 e9 n9 s0 hmb hV bnd w1 w2 w3 w4 w5 w6 w7 w8 w9 w10 st x2 x53 ma53 pX oa ob oX y1 b34 qa q0 qb oQ nb6 nbr nb196 na6 na7 n16 n13 na62 q62 nar k19 k195 n75 n76 P' e76 m123 e9' ew; lia)) (by rw [n16 90 (by omega)]; exact h.1.2.2.2.2.2.2.1.1) (by rw [n16 61 (by (clear h hb hWR hab xfb b5 b142 hcase P Sm hv hkk E3 e9 n9 s0 hmb hV bnd w1 w2 w3 w4 w5 w6 w7 w8 w9 w10 st x2 x53 ma53 pX oa ob oX y1 b34 qa q0 qb oQ nb6 nbr nb196 na6 na7 n16 n13 na62 q62 nar k19 k195 n75 n76 P' e76 m53 m123 e9' ew; lia)), y1 18 (by (clear h hb hWR hab xfb b5 b142 hcase P Sm hv hkk E3 e9 n9 s0 hmb hV bnd w1 w2 w3 w4 w5 w6 w7 w8 w9 w10 st x2 x53 ma53 pX oa ob oX y1 b34 qa q0 qb oQ nb6 nbr nb196 na6 na7 n16 n13 na62 q62 nar k19 k195 n75 n76 P' e76 m53 m123 e9' ew; lia))]; exact hV.2.1) (.inr ⟨by rw [b34]; have := hmb.1; (clear h hb hWR hab xfb b5 b142 hcase P Sm hv hkk E3 e9 n9 s0 hmb hV bnd w1 w2 w3 w4 w5 w6 w7 w8 w9 w10 st x2 x53 ma53 pX oa ob oX y1 b34 qa q0 qb oQ nb6 nbr nb196 na6 na7 n16 n13 na62 q62 nar k19 k195 n75 n76 P' e76 m53 m123 e9' ew; lia), rfl, by rw [m123, y1 18 (by omega), b34]; exact hmb⟩) (fun e => ?_) P' Sm hv hkk E3 e9' (fun r i hi => ?_) n9 q62 (fun z1 z9 o1 q1 atp j j0 j1 => ?_) (fun z1 z9 o1 q1 e22 => ?_)
  · rw [n13] at e
    have := (w10 hb e).1
    rw [na6 13 (by (clear h hb hWR hab xfb b5 b142 hcase P Sm hv hkk E3 e9 n9 s0 hmb hV bnd w1 w2 w3 w4 w5 w6 w7 w8 w9 w10 st x2 x53 ma53 pX oa ob oX y1 b34 qa q0 qb oQ nb6 nbr nb196 na6 na7 n16 n13 na62 q62 nar k19 k195 n75 n76 P' e76 m53 m123 e9' ew e this; lia))] at this; exact this
  · rw [ew, up_of2 (by (clear h hb hWR hab xfb b5 b142 hcase P Sm hv hkk E3 e9 n9 s0 hmb hV bnd w1 w2 w3 w4 w5 w6 w7 w8 w9 w10 st x2 x53 ma53 pX oa ob oX y1 b34 qa q0 qb oQ nb6 nbr nb196 na6 na7 n16 n13 na62 q62 nar k19 k195 n75 n76 P' e76 m53 m123 e9' ew; omega)), up_of2 (by omega), up_of2 (by (clear h hb hWR hab xfb b5 b142 hcase P Sm hv hkk E3 e9 n9 s0 hmb hV bnd w1 w2 w3 w4 w5 w6 w7 w8 w9 w10 st x2 x53 ma53 pX oa ob oX y1 b34 qa q0 qb oQ nb6 nbr nb196 na6 na7 n16 n13 na62 q62 nar k19 k195 n75 n76 P' e76 m53 m123 e9' ew; lia))]
  · have b3 := q1.2.2.1
    have k1 : ∀ r : Nat, r ∈ sq9L → N9 r (Mq 6 62) = up_ (nx_ Nb) 197 (Mq 6 62) (Nb 6 75) r (Mq 6 62) := fun r hr => b3 r (Mq 6 62) hr (by (clear h hb hWR hab xfb b5 b142 hcase P Sm hv hkk E3 e9 n9 s0 hmb hV w1 w2 w3 w4 w5 w6 w7 w8 w9 w10 st x2 x53 ma53 pX oa ob oX y1 b34 qa q0 qb oQ nb6 nbr nb196 na6 na7 n16 n13 nar k19 k195 n75 n76 P' e76 m53 m123 e9' ew z1 z9 o1 q1 atp j0 j1 b3 hr; lia)) (by rw [q62]; omega)
    have k193 := (k1 193 (by decide)).trans ((k19 193 (.inr rfl)).trans st.2.1)
    unfold nsK at j1
    rw [k193, if_neg (by decide)] at j1
    rw [show j = 0 by (clear h hb hWR hab xfb b5 b142 hcase P Sm hv hkk E3 e9 n9 s0 hmb hV bnd w1 w2 w3 w4 w5 w6 w7 w8 w9 w10 st x2 x53 ma53 pX oa ob oX y1 b34 qa q0 qb oQ nb6 nbr nb196 na6 na7 n16 n13 na62 q62 nar k19 k195 n75 n76 P' e76 m53 m123 e9' ew z1 z9 o1 q1 atp b3 k1 k193; lia), show Mx 5 4 + 0 = Mx 5 4 by (clear h hb hWR hab xfb b5 b142 hcase P Sm hv hkk E3 e9 n9 s0 hmb hV bnd w1 w2 w3 w4 w5 w6 w7 w8 w9 w10 st x2 x53 ma53 pX oa ob oX y1 b34 qa q0 qb oQ nb6 nbr nb196 na6 na7 n16 n13 na62 q62 nar k19 k195 n75 n76 P' e76 m53 m123 e9' ew z1 z9 o1 q1 atp j0 j1 b3 k1 k193; lia)]
    have g139 : M9 139 (Mx 5 4) = Mx 5 3 := by rw [ew, up_ne (by decide), up_ne (by decide), up_at]
    have g140 : M9 140 (Mx 5 4) = pr := by rw [ew, up_ne (by decide), up_at]
    have g141 : M9 141 (Mx 5 4) = nX_ Mb 5 3 := by rw [ew, up_at, m53]
    have g192 : N9 192 (Mq 6 62) = Mx 1 18 := by rw [k1 192 (by decide), k19 192 (.inl rfl), st.1]; exact hV.2.1
    have g196 : N9 196 (Mq 6 62) = Mq 6 104 := by rw [k1 196 (by decide), up_ne (by decide), nx_ne (by decide)]; exact nb196
    have g197 : N9 197 (Mq 6 62) = up_ (nx_ Nb) 197 (Mq 6 62) (Nb 6 75) 6 75 := (k1 197 (by decide)).trans (up_at.trans (n75.trans (n16 75 (by (clear h hb hWR hab xfb b5 b142 hcase P Sm hv hkk E3 e9 n9 s0 hmb hV bnd w1 w2 w3 w4 w5 w6 w7 w8 w9 w10 st x2 x53 ma53 pX oa ob oX y1 b34 qa q0 qb oQ nb6 nbr nb196 na6 na7 n16 n13 na62 q62 nar k19 k195 n75 n76 P' e76 m53 m123 e9' ew z1 z9 o1 q1 atp j0 j1 b3 k1 k193 g139 g140 g141 g192 g196; lia))).symm))
    unfold SRO
    rw [k193, g139, g140, g141, g192, g196, g197]
    rw [n13] at z1
    have ask := (ASK_w hb hWR (w4.2.2.2.2.2.2.1.trans hb) z1 ma53).2
    rw [na6 61 (by omega), hV.2.1, x53, show stQ_ (nx_ Mq) 2 mask 6 104 = Mq 6 104 by rw [stQ_6 (by decide), nx_6 (by decide)]] at ask
    have ask1 : ASK (nX_ Mb) (up_ (nx_ Nb) 197 (Mq 6 62) (Nb 6 75)) (Mx 1 18) (Mx 5 3) (Mq 6 104) := ASK_e ask (by rw [nX_ne (by decide), b142]) (by rw [m53, b5]) (fun r h6 hs => by rw [up_ne (fun e => hs (by rw [e]; decide)), nx_ne h6, nbr r h6 (fun e => hs (by rw [e]; decide)) (fun e => hs (by rw [e]; decide))]) (by rw [up_ne (by decide), nx_6 (by decide), nb6 104 (by decide)])
    have ask2 := ASK_c ask1 o1 q1
    have ask3 : ASK M9 N9 (Mx 1 18) (Mx 5 3) (Mq 6 104) := ASK_e ask2 (e9' 142 (by decide) (by decide) (by decide)) (by rw [e9' 5 (by decide) (by decide) (by decide)]) (fun _ _ _ => rfl) rfl
    exact ⟨fun _ => atp, fun e => absurd e (by decide), fun _ => ⟨ask3, (k1 195 (by decide)).symm ▸ k195.symm⟩, fun e => absurd e (by decide)⟩
  · have b3 := q1.2.2.1
    have k193 : N9 193 (Mq 6 62) = 2 := (b3 193 (Mq 6 62) (by decide) (by (clear h hb hWR hab xfb b5 b142 hcase P Sm hv hkk E3 e9 n9 s0 hmb hV w1 w2 w3 w4 w5 w6 w7 w8 w9 w10 st x2 x53 ma53 pX oa ob oX y1 b34 qa q0 qb oQ nb6 nbr nb196 na6 na7 n16 n13 nar k19 k195 n75 n76 P' e76 m53 m123 e9' ew z1 z9 o1 q1 e22 b3; lia)) (by rw [q62]; (clear h hb hWR hab xfb b5 b142 hcase P Sm hv hkk E3 e9 n9 s0 hmb hV bnd w1 w2 w3 w4 w5 w6 w7 w8 w9 w10 st x2 x53 ma53 pX oa ob oX y1 b34 qa q0 qb oQ nb6 nbr nb196 na6 na7 n16 n13 na62 q62 nar k19 k195 n75 n76 P' e76 m53 m123 e9' ew z1 z9 o1 q1 e22 b3; lia))).trans ((k19 193 (.inr rfl)).trans st.2.1)
    refine GTB_n (e22.trans (y1 22 (by (clear h hb hWR hab xfb b5 b142 hcase P Sm hv hkk E3 e9 n9 s0 hmb hV bnd w1 w2 w3 w4 w5 w6 w7 w8 w9 w10 st x2 x53 ma53 pX oa ob oX y1 b34 qa q0 qb oQ nb6 nbr nb196 na6 na7 n16 n13 na62 q62 nar k19 k195 n75 n76 P' e76 m53 m123 e9' ew z1 z9 o1 q1 e22 b3 k193; lia)))) ?_ (by rw [k193]; decide)
    rw [n9, Qn_6 (by decide) (by decide), P.2.2.1.2.2 62 (by decide), tM_6 (by decide) (by decide) (by decide)]; exact q62
end GY
end T213_gr
section T214_gr
/-! growth: INPUT -/
section GZ
variable {b F F' : Int} {M N M1 N1 M' N' M9 N9 Mx Mq : mm_} {a a' a9 mask w s mk v kk lb ub T c f i : Int}
theorem RWI_e [Inhabited gh_] (h : RWI M N T c i) (hx : ∀ r : Nat, r ∈ [133, 134, 135, 136, 137, 138] → M1 r = M r) (hq : ∀ r : Nat, r ∈ [156, 157, 171, 182, 183, 184, 200, 201, 202] → N1 r = N r) : RWI M1 N1 T c i := by
  unfold RWI UQI at *
  rw [hx 133 (by decide), hx 134 (by decide), hx 135 (by decide), hx 136 (by decide), hx 137 (by decide), hx 138 (by decide), hq 156 (by decide), hq 157 (by decide), hq 171 (by decide), hq 182 (by decide), hq 183 (by decide), hq 184 (by decide), hq 200 (by decide), hq 201 (by decide), hq 202 (by decide)]
  exact h
/-- between the ins of an input and its semicolon -/
def IPB (Mx Mq Ma Na Mb Nb : mm_) (x2 : Int) : Prop := OLX Ma Mb ∧ (∀ r : Nat, r ≠ 1 → r ≠ 5 → r ≠ 142 → Mb r = Ma r) ∧ Mb 5 4 = Ma 5 4 ∧ (∀ i : Int, i = 18 ∨ i = 19 ∨ i = 21 ∨ i = 22 ∨ i = 23 ∨ i = 29 ∨ i = 34 → Mb 1 i = Ma 1 i)
  ∧ OLQ (10 * Mx 1 18 + Mx 1 19) (10 * Mx 1 18 + 10) Mq Nb ∧ (∀ r : Nat, r ∉ [6, 196, 199, 227, 228, 229, 230, 231, 232, 233, 234] → Nb r = Na r) ∧ (∀ i : Int, i = 61 ∨ i = 62 ∨ i = 63 ∨ i = 75 ∨ i = 76 ∨ i = 90 → Nb 6 i = Na 6 i) ∧ Nb 199 (Mq 6 62) = Na 6 63 ∧ (Nb 6 13 = 0 → Na 6 13 = 0)
  ∧ (Nb 6 13 = 0 → (x2 = -1 ∧ Nb 196 (Mq 6 62) = -1) ∨ ASK Mb Nb (Mx 1 18) x2 (Nb 196 (Mq 6 62)))
theorem IPF_b [Inhabited gh_] (hb : b = 1) (h : SS b F Mx Mq a mask 0) {Ma Na Mb Nb : mm_} {aa ab x2 : Int} (G3 : SLG b 0 (nX_ Mx) (stQ_ (nx_ Mq) 0 mask) Ma Na)
    (hc : (ab = aa ∧ x2 = -1 ∧ Mb = Ma ∧ Nb = nE_ Na) ∨ (∃ Mc Nc, WR b F (nX_ Ma) (nx_ (nE_ Na)) Mc Nc (aa + 1) ab 0 1 ∧ x2 = Ma 5 3 ∧ Mb = pX_ Mc 25 ∧ Nb = up_ Nc 196 (Mq 6 62) (Na 6 104))) : IPB Mx Mq Ma Na Mb Nb x2 := by
  have hV := h.1.1.2.1
  have st := stQ_k (N := nx_ Mq) (w := 0) (mk := mask)
  rw [nx_6 (i := 62) (by decide)] at st
  have na62 : Na 6 62 = Mq 6 62 + 1 := by rw [G3.2.1.2.1 62 (by decide), stQ_62, nx_6 (by decide)]
  have qa : OLQ (10 * Mx 1 18 + Mx 1 19) (10 * Mx 1 18 + 10) Mq Na := OLQ_tr (Int.le_refl _) OLQ_nx (OLQ_tr (Int.le_refl _) OLQ_st (OLQ_SQI G3.2.1))
  have qe : OLQ (10 * Mx 1 18 + Mx 1 19) (10 * Mx 1 18 + 10) Mq (nE_ Na) := OLQ_u qa (by decide) (by (clear hb h G3 hc hV st qa; omega))
  have e199 : nE_ Na 199 (Mq 6 62) = Na 6 63 := by unfold nE_; rw [na62, show Mq 6 62 + 1 - 1 = Mq 6 62 by (clear hb h G3 hc hV st na62 qa qe; lia), up_at]
  have e196 : Na 196 (Mq 6 62) = -1 := by rw [G3.2.1.1 196 (by decide)]; exact st.2.2.2.2.1
  have na61 : Na 6 61 = Mx 1 18 := by rw [G3.2.1.2.1 61 (by decide), stQ_6 (by decide), nx_6 (by decide)]; exact hV.2.1
  rcases hc with ⟨_, ex, em, en⟩ | ⟨Mc, Nc, hWR, ex, em, en⟩
  · rw [em, en]
    exact ⟨OLX_rf, fun _ _ _ _ => rfl, rfl, fun _ _ => rfl, qe, fun r hr => nE_r (fun e => hr (by rw [e]; decide)), fun i _ => by rw [nE_r (by decide)], e199, fun e => by rw [nE_r (by decide)] at e; exact e, fun _ => .inl ⟨ex, by rw [nE_r (by decide)]; exact e196⟩⟩
  · have wr := hWR
    obtain ⟨w1, w2, w3, w4, w5, w6, w7, w8, w9, w10⟩ := wr
    have mc53 : Mc 5 3 < 12000 := (ER_st w4).2
    have pX := OLX_pX (M := Mc) (v := 25) mc53
    have xf : XF Ma (pX_ Mc 25) := XF_tr nX_XF (XF_tr w2 pX_XF)
    have q104 : nx_ (nE_ Na) 6 104 = Na 6 104 := by rw [nx_6 (by decide), nE_r (by decide)]
    have m53 : nX_ Ma 5 3 = Ma 5 3 := by rw [nX_ne (by decide)]
    have n13 : nx_ (nE_ Na) 6 13 = Na 6 13 := by rw [nx_6 (by decide), nE_r (by decide)]
    rw [em, en]
    refine ⟨OLX_tr OLX_nX (OLX_tr (OLX_XF w2 w7.1 w8) pX.1), fun r h1 h5 h2 => xf.1 r (by simp only [List.mem_cons, List.not_mem_nil, or_false, not_or]; exact ⟨h1, h5, h2⟩), xf.2.2 4 (by decide), fun i hi => xf.2.1 i (by (clear hb h G3 hV st na62 qa qe e199 e196 na61 hWR ex em en w1 w2 w3 w4 w5 w6 w7 w8 w9 w10 mc53 pX xf q104 m53 n13; lia)) (by (clear hb h G3 hV st na62 qa qe e199 e196 na61 hWR ex em en w1 w2 w3 w4 w5 w6 w7 w8 w9 w10 mc53 pX xf q104 m53 n13; lia)) (by (clear hb h G3 hV st na62 qa qe e199 e196 na61 hWR ex em en w1 w2 w3 w4 w5 w6 w7 w8 w9 w10 mc53 pX xf q104 m53 n13; lia)) (by (clear hb h G3 hV st na62 qa qe e199 e196 na61 hWR ex em en w1 w2 w3 w4 w5 w6 w7 w8 w9 w10 mc53 pX xf q104 m53 n13; lia)) (by (clear hb h G3 hV st na62 qa qe e199 e196 na61 hWR ex em en w1 w2 w3 w4 w5 w6 w7 w8 w9 w10 mc53 pX xf q104 m53 n13; lia)), OLQ_u (OLQ_tr (Int.le_refl _) qe (OLQ_tr (Int.le_refl _) OLQ_nx (OLQ_QG w3 (by (clear hb h G3 hV st na62 qa qe e199 e196 na61 hWR ex em en w1 w2 w3 w4 w6 w7 w8 w9 w10 mc53 pX xf m53 n13; omega)) w6))) (by decide) (Int.le_refl _), fun r hr => ?_, fun i hi => ?_, ?_, fun e => ?_, fun e => ?_⟩
    · rw [up_ne (fun e => hr (by rw [e]; decide)), w3.1 r (fun e => hr (by revert e; simp only [List.mem_cons, List.not_mem_nil, or_false]; (clear hb h G3 hV st na62 qa qe e199 e196 na61 hWR ex em en w1 w2 w3 w4 w5 w6 w7 w8 w9 w10 mc53 pX xf q104 m53 n13 hr; lia))), nx_ne (fun e => hr (by rw [e]; decide)), nE_r (fun e => hr (by rw [e]; decide))]
    · rw [up_ne (by decide), w3.2 i (by (clear hb h G3 hV st na62 qa qe e199 e196 na61 hWR ex em en w1 w2 w3 w4 w5 w6 w7 w8 w9 w10 mc53 pX xf q104 m53 n13; lia)) (by (clear hb h G3 hV st na62 qa qe e199 e196 na61 hWR ex em en w1 w2 w3 w4 w5 w6 w7 w8 w9 w10 mc53 pX xf q104 m53 n13; omega)) (by (clear hb h G3 hV st na62 qa qe e199 e196 na61 hWR ex em en w1 w2 w3 w4 w5 w6 w7 w8 w9 w10 mc53 pX xf q104 m53 n13; lia)) (by (clear hb h G3 hV st na62 qa qe e199 e196 na61 hWR ex em en w1 w2 w3 w4 w5 w6 w7 w8 w9 w10 mc53 pX xf q104 m53 n13; lia)) (by (clear hb h G3 hV st na62 qa qe e199 e196 na61 hWR ex em en w1 w2 w3 w4 w5 w6 w7 w8 w9 w10 mc53 pX xf q104 m53 n13; lia)) (by (clear hb h G3 hV st na62 qa qe e199 e196 na61 hWR ex em en w1 w2 w3 w4 w5 w6 w7 w8 w9 w10 mc53 pX xf q104 m53 n13; lia)) (by (clear hb h G3 hV st na62 qa qe e199 e196 na61 hWR ex em en w1 w2 w3 w4 w5 w6 w7 w8 w9 w10 mc53 pX xf q104 m53 n13; lia)) (by omega) (by (clear hb h G3 hV st na62 qa qe e199 e196 na61 hWR ex em en w1 w2 w3 w4 w5 w6 w7 w8 w9 w10 mc53 pX xf q104 m53 n13; lia)) (by (clear hb h G3 hV st na62 qa qe e199 e196 na61 hWR ex em en w1 w2 w3 w4 w5 w6 w7 w8 w9 w10 mc53 pX xf q104 m53 n13; lia)) (by (clear hb h G3 hV st na62 qa qe e199 e196 na61 hWR ex em en w1 w2 w3 w4 w5 w6 w7 w8 w9 w10 mc53 pX xf q104 m53 n13; lia)), nx_6 (by omega), nE_r (by decide)]
    · rw [up_ne (by decide), w3.1 199 (by decide), nx_ne (by decide)]; exact e199
    · rw [up_ne (by decide)] at e
      have := (w10 hb e).1
      rw [n13] at this; exact this
    · rw [up_ne (by decide)] at e
      right
      have ask := (ASK_w hb hWR (w4.2.2.2.2.2.2.1.trans hb) e mc53).2
      rw [show nx_ (nE_ Na) 6 61 = Mx 1 18 by rw [nx_6 (by decide), nE_r (by decide)]; exact na61, m53, q104, ← ex] at ask
      rw [up_at]
      exact ASK_e ask rfl rfl (fun r h6 hs => up_ne (fun e => hs (by rw [e]; decide))) (by rw [up_ne (by decide)])
theorem P_input [Inhabited gh_] (h : SS b F Mx Mq a mask 0) (hw : IPF b F F' Mx Mq a mask M9 N9 a9) : PRS b Mx Mq M9 N9 := by
  rcases bl01 (TS_E h.1) with hb | hb
  · exact fun e => by omega
  obtain ⟨Ma, Na, Mb, Nb, M', N', aa, ab, x2, v, kk, G3, haa, hc, P, Sm, hv, hkk, E3, e9, n9⟩ := hw
  obtain ⟨i1, i2, i3, i4, i5, i6, i7, i8, i9, i10⟩ := IPF_b hb h G3 hc
  have s0 := SS_SCL h hb
  have hmb := (h.2.2.2 hb).2.2
  have hV := h.1.1.2.1
  have bnd := h.2.1
  have st := stQ_k (N := nx_ Mq) (w := 0) (mk := mask)
  rw [nx_6 (i := 62) (by decide), nx_6 (i := 61) (by decide), nx_6 (i := 63) (by decide)] at st
  have na6 : ∀ i : Int, i = 13 ∨ i = 61 ∨ i = 63 ∨ i = 75 ∨ i = 76 ∨ i = 90 → stQ_ (nx_ Mq) 0 mask 6 i = Mq 6 i := fun i hi => by rw [stQ_6 (by (clear h hb G3 haa hc P Sm hv hkk E3 e9 n9 i1 i2 i3 i4 i5 i6 i7 i8 i9 i10 s0 hmb hV bnd st; lia)), nx_6 (by (clear h hb G3 haa hc P Sm hv hkk E3 e9 n9 i1 i2 i3 i4 i5 i6 i7 i8 i9 i10 s0 hmb hV bnd st; lia))]
  have na7 : ∀ i : Int, i = 61 ∨ i = 75 ∨ i = 76 ∨ i = 90 → Na 6 i = Mq 6 i := fun i hi => by rw [G3.2.1.2.1 i (by rcases hi with q | q | q | q <;> rw [q] <;> decide), na6 i (by (clear h hb G3 haa hc P Sm hv hkk E3 e9 n9 i1 i2 i3 i4 i5 i6 i7 i8 i9 i10 s0 hmb hV bnd st na6; lia))]
  have na62 : Na 6 62 = Mq 6 62 + 1 := by rw [G3.2.1.2.1 62 (by decide), stQ_62, nx_6 (by decide)]
  have na63 : Mq 6 63 ≤ Na 6 63 := by have := G3.2.1.2.2.1; rw [na6 63 (by (clear h hb G3 haa hc P Sm hv hkk E3 e9 n9 i1 i2 i3 i4 i5 i6 i7 i8 i9 i10 s0 hmb hV bnd st na6 na7 na62 this; lia))] at this; exact this
  obtain ⟨g54, ggb, grw⟩ := G3.2.2.2 hb
  rw [na6 63 (by omega), show nX_ Mx 5 4 = Mx 5 4 by rw [nX_ne (by decide)]] at g54
  have oX : OLX Mx (nX_ Mb) := OLX_tr OLX_nX (OLX_tr (OLX_SXI G3.1) (OLX_tr i1 OLX_nX))
  have y1 : ∀ i : Int, i = 18 ∨ i = 19 ∨ i = 21 ∨ i = 23 ∨ i = 29 ∨ i = 34 → nX_ Mb 1 i = Mx 1 i := fun i hi => by
    rw [nX_1 (by (clear h hb G3 haa hc P Sm hv hkk E3 e9 n9 i1 i2 i3 i4 i5 i6 i7 i8 i9 i10 s0 hmb hV bnd st na6 na7 na62 na63 g54 ggb grw oX; lia)), i4 i (by (clear h hb G3 haa hc P Sm hv hkk E3 e9 n9 i1 i2 i3 i4 i5 i6 i7 i8 i9 i10 s0 hmb hV bnd st na6 na7 na62 na63 g54 ggb grw oX; lia)), G3.1.2.1 i (by rcases hi with q | q | q | q | q | q <;> rw [q] <;> decide), nX_1 (by omega)]
  have b34 : Mb 1 34 = Mx 1 34 := by rw [← y1 34 (by omega), nX_1 (by decide)]
  have oQ : OLQ (10 * Mx 1 18 + Mx 1 19) (10 * Mx 1 18 + 10) Mq (up_ (nx_ Nb) 197 (Mq 6 62) (Nb 6 75)) := OLQ_u (OLQ_tr (Int.le_refl _) i5 OLQ_nx) (by decide) (Int.le_refl _)
  have n16 : ∀ i : Int, i = 61 ∨ i = 75 ∨ i = 76 ∨ i = 90 → up_ (nx_ Nb) 197 (Mq 6 62) (Nb 6 75) 6 i = Mq 6 i := fun i hi => by rw [up_ne (by decide), nx_6 (by (clear h hb G3 haa hc P Sm hv hkk E3 e9 n9 i1 i2 i3 i4 i5 i6 i7 i8 i9 i10 s0 hmb hV bnd st na6 na7 na62 na63 g54 ggb grw oX y1 b34 oQ; lia)), i7 i (by (clear h hb G3 haa hc P Sm hv hkk E3 e9 n9 i1 i2 i3 i4 i5 i6 i7 i8 i9 i10 s0 hmb hV bnd st na6 na7 na62 na63 g54 ggb grw oX y1 b34 oQ; lia)), na7 i hi]
  have n13 : up_ (nx_ Nb) 197 (Mq 6 62) (Nb 6 75) 6 13 = Nb 6 13 := by rw [up_ne (by decide), nx_6 (by decide)]
  have n63 : up_ (nx_ Nb) 197 (Mq 6 62) (Nb 6 75) 6 63 = Na 6 63 := by rw [up_ne (by decide), nx_6 (by decide), i7 63 (by (clear h hb G3 haa hc P Sm hv hkk E3 e9 n9 i1 i2 i3 i4 i5 i6 i7 i8 i9 i10 s0 hmb hV bnd st na6 na7 na62 na63 g54 ggb grw oX y1 b34 oQ n16 n13; lia))]
  have q62 : up_ (nx_ Nb) 197 (Mq 6 62) (Nb 6 75) 6 62 = Mq 6 62 + 1 := by rw [up_ne (by decide), nx_6 (by decide), i7 62 (by omega), na62]
  have kr : ∀ r : Nat, r = 192 ∨ r = 193 ∨ r = 198 → up_ (nx_ Nb) 197 (Mq 6 62) (Nb 6 75) r (Mq 6 62) = stQ_ (nx_ Mq) 0 mask r (Mq 6 62) := fun r hr => by
    rw [up_ne (by (clear h hb G3 haa hc P Sm hv hkk E3 e9 n9 i1 i2 i3 i4 i5 i6 i7 i8 i9 i10 s0 hmb hV bnd st na6 na7 na62 na63 g54 ggb grw oX y1 b34 oQ n16 n13 n63 q62; lia)), nx_ne (by (clear h hb G3 haa hc P Sm hv hkk E3 e9 n9 i1 i2 i3 i4 i5 i6 i7 i8 i9 i10 s0 hmb hV bnd st na6 na7 na62 na63 g54 ggb grw oX y1 b34 oQ n16 n13 n63 q62; omega)), i6 r (by simp only [List.mem_cons, List.not_mem_nil, or_false]; (clear h hb G3 haa hc P Sm hv hkk E3 e9 n9 i1 i2 i3 i4 i5 i6 i7 i8 i9 i10 s0 hmb hV bnd st na6 na7 na62 na63 g54 ggb grw oX y1 b34 oQ n16 n13 n63 q62; omega)), G3.2.1.1 r (by unfold qiL; simp only [List.mem_cons, List.not_mem_nil, or_false]; (clear h hb G3 haa hc P Sm hv hkk E3 e9 n9 i1 i2 i3 i4 i5 i6 i7 i8 i9 i10 s0 hmb hV bnd st na6 na7 na62 na63 g54 ggb grw oX y1 b34 oQ n16 n13 n63 q62; omega))]
  have k199 : up_ (nx_ Nb) 197 (Mq 6 62) (Nb 6 75) 199 (Mq 6 62) = Na 6 63 := by rw [up_ne (by decide), nx_ne (by decide)]; exact i8
  have n75 : Nb 6 75 = Mq 6 75 := by rw [i7 75 (by omega), na7 75 (by (clear h hb G3 haa hc P Sm hv hkk E3 e9 n9 i1 i2 i3 i4 i5 i6 i7 i8 i9 i10 s0 hmb hV bnd st na6 na7 na62 na63 g54 ggb grw oX y1 b34 oQ n16 n13 n63 q62 kr k199; lia))]
  have n76 := n16 76 (by omega)
  have P' := P
  have e76 : Nb 6 76 = up_ (nx_ Nb) 197 (Mq 6 62) (Nb 6 75) 6 76 := by rw [n76, i7 76 (by (clear h hb G3 haa hc P Sm hv hkk E3 e9 n9 i1 i2 i3 i4 i5 i6 i7 i8 i9 i10 s0 hmb hV bnd st na6 na7 na62 na63 g54 ggb grw oX y1 b34 oQ n16 n13 n63 q62 kr k199 n75 n76 P'; lia)), na7 76 (by omega)]
  rw [e76] at P'
  have m53 : nX_ Mb 5 3 = Mb 5 3 := by rw [nX_ne (by decide)]
  have m54 : nX_ Mb 5 4 = Ma 5 4 := by rw [nX_ne (by decide)]; exact i3
  have m123 : nX_ Mb 123 = Mx 123 := oX.1.1 123 (by decide)
  have e9' : ∀ r : Nat, r ≠ 139 → r ≠ 141 → M9 r = Xn_ M' b kk a9 r := fun r h1 h3 => by rw [e9]; exact xiF_r h1 h3 _ _ _
  have f9 := fun x => xiF_9 (e := x2) (c := Mb 5 3) (Mb 5 4 - Mx 5 4).toNat (Mx 5 4) (Xn_ M' b kk a9) x
  rw [← e9] at f9
  have z0 : up_ (nx_ Nb) 197 (Mq 6 62) (Nb 6 75) 6 13 = 0 → Mq 6 13 = 0 ∧ Nb 6 13 = 0 ∧ Na 6 13 = 0 := fun e => by
    rw [n13] at e
    have e2 := i9 e
    have e3 := (grw e2).1
    rw [na6 13 (by (clear h hb G3 haa hc P Sm hv hkk E3 e9 n9 i1 i2 i3 i4 i5 i6 i7 i8 i9 i10 s0 hmb hV bnd st na6 na7 na62 na63 g54 ggb grw oX y1 b34 oQ n16 n13 n63 q62 kr k199 n75 n76 P' e76 m53 m54 m123 e9' f9 e e2 e3; lia))] at e3
    exact ⟨e3, e, e2⟩
  refine PRS_ln hb s0 ⟨oX, oQ⟩ (y1 29 (by (clear h hb G3 haa hc P Sm hv hkk E3 e9 n9 i1 i2 i3 i4 i5 i6 i7 i8 i9 i10 s0 hmb hV bnd st na6 na7 na62 na63 g54 ggb grw oX y1 b34 oQ n16 n13 n63 q62 kr k199 n75 n76 P' e76 m53 m54 m123 e9' f9 z0; lia))) (y1 19 (by omega)) (y1 21 (by omega)) (y1 23 (by (clear h hb G3 haa hc P Sm hv hkk E3 e9 n9 i1 i2 i3 i4 i5 i6 i7 i8 i9 i10 s0 hmb hV bnd st na6 na7 na62 na63 g54 ggb grw oX y1 b34 oQ n16 n13 n63 q62 kr k199 n75 n76 P' e76 m53 m54 m123 e9' f9 z0; lia))) n76 (n16 75 (by omega)) (by have := oX.2.1.1; have := ER_st (TS_E h.1); omega) (by rw [n16 90 (by (clear h hb G3 haa hc P Sm hv hkk E3 e9 n9 i1 i2 i3 i4 i5 i6 i7 i8 i9 i10 s0 hmb hV bnd st na6 na7 na62 na63 g54 ggb grw oX y1 b34 oQ n16 n13 n63 q62 kr k199 n75 n76 P' e76 m53 m54 m123 e9' f9 z0; lia))]; exact h.1.2.2.2.2.2.2.1.1) (by rw [n16 61 (by omega), y1 18 (by (clear h hb G3 haa hc P Sm hv hkk E3 e9 n9 i1 i2 i3 i4 i5 i6 i7 i8 i9 i10 s0 hmb hV bnd st na6 na7 na62 na63 g54 ggb grw oX y1 b34 oQ n16 n13 n63 q62 kr k199 n75 n76 P' e76 m53 m54 m123 e9' f9 z0; lia))]; exact hV.2.1) (.inr ⟨by rw [b34]; have := hmb.1; (clear h hb G3 haa hc P Sm hv hkk E3 e9 n9 i1 i2 i3 i4 i5 i6 i7 i8 i9 i10 s0 hmb hV bnd st na6 na7 na62 na63 g54 ggb grw oX y1 b34 oQ n16 n13 n63 q62 kr k199 n75 n76 P' e76 m53 m54 m123 e9' f9 z0; lia), rfl, by rw [m123, y1 18 (by omega), b34]; exact hmb⟩) (fun e => (z0 e).1) P' Sm hv hkk E3 (fun r h1 _ h3 => e9' r h1 h3) (fun r i hi => ?_) n9 q62 (fun z1 z9 o1 q1 atp j j0 j1 => ?_) (fun z1 z9 o1 q1 e22 => ?_)
  · by_cases c1 : r = 139
    · rw [c1, (f9 i).1, if_neg (by (clear h hb G3 haa hc P Sm hv hkk E3 e9 n9 i1 i2 i3 i4 i5 i6 i7 i8 i9 i10 s0 hmb hV bnd na6 na7 na62 na63 ggb grw oX y1 b34 oQ n16 n13 q62 kr n75 n76 P' e76 m53 m123 e9' f9 z0 c1; omega))]
    · by_cases c2 : r = 141
      · rw [c2, (f9 i).2, if_neg (by omega)]
      · rw [e9' r c1 c2]
  · have b3 := q1.2.2.1
    have k1 : ∀ r : Nat, r ∈ sq9L → N9 r (Mq 6 62) = up_ (nx_ Nb) 197 (Mq 6 62) (Nb 6 75) r (Mq 6 62) := fun r hr => b3 r (Mq 6 62) hr (by (clear h hb G3 haa hc P Sm hv hkk E3 e9 n9 i1 i2 i3 i4 i5 i6 i7 i8 i9 i10 s0 hmb hV st na6 na7 na63 g54 ggb grw oX y1 b34 oQ n16 n13 n63 kr k199 n75 n76 P' e76 m53 m54 m123 e9' f9 z0 z1 z9 o1 q1 atp j0 j1 b3 hr; lia)) (by rw [q62]; omega)
    have k193 := (k1 193 (by decide)).trans ((kr 193 (.inr (.inl rfl))).trans st.2.1)
    have k198 := (k1 198 (by decide)).trans ((kr 198 (.inr (.inr rfl))).trans st.2.2.2.2.2.2.1)
    have k9 := (k1 199 (by decide)).trans k199
    unfold nsK at j1
    rw [k193, if_pos (by decide), k198, k9] at j1
    have jb : Mx 5 4 ≤ Mx 5 4 + j ∧ Mx 5 4 + j < Mx 5 4 + ((Mb 5 4 - Mx 5 4).toNat : Int) := by rw [i3]; (clear h hb G3 haa hc P Sm hv hkk E3 e9 n9 i1 i2 i3 i4 i5 i6 i7 i8 i9 i10 s0 hmb hV bnd na6 na7 na62 ggb grw oX y1 b34 oQ n16 n13 q62 kr n75 n76 P' e76 m53 m54 m123 e9' f9 z0 z1 z9 o1 q1 atp b3 k1 k193; lia)
    have g139 : M9 139 (Mx 5 4 + j) = x2 := by rw [(f9 _).1, if_pos jb]
    have g141 : M9 141 (Mx 5 4 + j) = nX_ Mb 5 3 := by rw [(f9 _).2, if_pos jb, m53]
    have g192 : N9 192 (Mq 6 62) = Mx 1 18 := by rw [k1 192 (by decide), kr 192 (.inl rfl), st.1]; exact hV.2.1
    have g196 : N9 196 (Mq 6 62) = Nb 196 (Mq 6 62) := by rw [k1 196 (by decide), up_ne (by decide), nx_ne (by decide)]
    have g197 : N9 197 (Mq 6 62) = up_ (nx_ Nb) 197 (Mq 6 62) (Nb 6 75) 6 75 := (k1 197 (by decide)).trans (up_at.trans (n75.trans (n16 75 (by omega)).symm))
    obtain ⟨_, zb, za⟩ := z0 z1
    unfold SRO
    rw [k193, g139, g141, g192, g196, g197, k198]
    refine ⟨fun _ => atp, fun _ => ?_, fun e => absurd e (by decide), fun _ => ?_⟩
    · rcases i10 zb with ⟨e1, e2⟩ | ask
      · exact .inl ⟨e2, e1⟩
      · right
        have ask1 : ASK (nX_ Mb) (up_ (nx_ Nb) 197 (Mq 6 62) (Nb 6 75)) (Mx 1 18) x2 (Nb 196 (Mq 6 62)) := ASK_e ask (by rw [nX_ne (by decide)]) m53 (fun r h6 hs => by rw [up_ne (fun e => hs (by rw [e]; decide)), nx_ne h6]) (by rw [up_ne (by decide), nx_6 (by decide)])
        exact ASK_e (ASK_c ask1 o1 q1) (e9' 142 (by decide) (by decide)) (by rw [e9' 5 (by decide) (by decide)]) (fun _ _ _ => rfl) rfl
    · have r0 := (grw za).2 j j0 (by rw [na6 63 (by (clear h hb G3 haa hc P Sm hv hkk E3 e9 n9 i1 i2 i3 i4 i5 i6 i7 i8 i9 i10 s0 hmb hV bnd st na6 na7 na62 na63 g54 ggb grw oX y1 b34 oQ n16 n13 n63 q62 kr k199 n75 n76 P' e76 m53 m54 m123 e9' f9 z0 z1 z9 o1 q1 atp j0 j1 b3 k1 k193 k198 k9 jb g139 g141 g192 g196 g197 zb za; lia))]; exact j1)
      rw [na6 61 (by (clear h hb G3 haa hc P Sm hv hkk E3 e9 n9 i1 i2 i3 i4 i5 i6 i7 i8 i9 i10 s0 hmb hV bnd st na6 na7 na62 na63 g54 ggb grw oX y1 b34 oQ n16 n13 n63 q62 kr k199 n75 n76 P' e76 m53 m54 m123 e9' f9 z0 z1 z9 o1 q1 atp j0 j1 b3 k1 k193 k198 k9 jb g139 g141 g192 g196 g197 zb za r0; lia)), hV.2.1, na6 63 (by (clear h hb G3 haa hc P Sm hv hkk E3 e9 n9 i1 i2 i3 i4 i5 i6 i7 i8 i9 i10 s0 hmb hV bnd st na6 na7 na62 na63 g54 ggb grw oX y1 b34 oQ n16 n13 n63 q62 kr k199 n75 n76 P' e76 m53 m54 m123 e9' f9 z0 z1 z9 o1 q1 atp j0 j1 b3 k1 k193 k198 k9 jb g139 g141 g192 g196 g197 zb za r0; lia)), show nX_ Mx 5 4 = Mx 5 4 by rw [nX_ne (by decide)]] at r0
      have r1 : RWI (nX_ Mb) (up_ (nx_ Nb) 197 (Mq 6 62) (Nb 6 75)) (Mx 1 18) (Mx 5 4 + j) (Mq 6 63 + j) := RWI_e r0 (fun r hr => by rw [nX_ne (fun e => by rw [e] at hr; revert hr; decide), i2 r (fun e => by rw [e] at hr; revert hr; decide) (fun e => by rw [e] at hr; revert hr; decide) (fun e => by rw [e] at hr; revert hr; decide)]) (fun r hr => by rw [up_ne (fun e => by rw [e] at hr; revert hr; decide), nx_ne (fun e => by rw [e] at hr; revert hr; decide), i6 r (by revert hr; simp only [List.mem_cons, List.not_mem_nil, or_false]; (clear h hb G3 haa hc P Sm hv hkk E3 e9 n9 i1 i2 i3 i4 i5 i6 i7 i8 i9 i10 s0 hmb hV bnd st na6 na7 na62 na63 g54 ggb grw oX y1 b34 oQ n16 n13 n63 q62 kr k199 n75 n76 P' e76 m53 m54 m123 e9' f9 z0 z1 z9 o1 q1 atp j0 j1 b3 k1 k193 k198 k9 jb g139 g141 g192 g196 g197 zb za r0; omega))])
      exact RWI_e (RWI_o r1 o1 q1 (by rw [m54]; (clear h hb G3 haa hc P Sm hv hkk E3 e9 n9 i1 i2 i3 i4 i5 i6 i7 i8 i9 i10 s0 hmb hV na6 na7 na62 na63 ggb grw oX y1 b34 oQ n16 n13 q62 kr n75 n76 P' e76 m53 m123 e9' f9 z0 z1 z9 o1 q1 atp b3 k1 k193 jb g139 g141 g192 g196 g197 zb za r0 r1; lia)) (by rw [n63]; (clear h hb G3 haa hc P Sm hv hkk E3 e9 n9 i1 i2 i3 i4 i5 i6 i7 i8 i9 i10 s0 hmb hV na6 na7 na62 na63 g54 ggb grw oX y1 b34 oQ n16 n13 q62 kr n75 n76 P' e76 m53 m54 m123 e9' f9 z0 z1 z9 o1 q1 atp b3 k1 k193 jb g139 g141 g192 g196 g197 zb za r0 r1; lia))) (fun r hr => e9' r (fun e => by rw [e] at hr; revert hr; decide) (fun e => by rw [e] at hr; revert hr; decide)) (fun _ _ => rfl)
  · have b3 := q1.2.2.1
    have b4 := q1.2.2.2.1
    have k1 : ∀ r : Nat, r ∈ sq9L → N9 r (Mq 6 62) = up_ (nx_ Nb) 197 (Mq 6 62) (Nb 6 75) r (Mq 6 62) := fun r hr => b3 r (Mq 6 62) hr (by (clear h hb G3 haa hc P Sm hv hkk E3 e9 n9 i1 i2 i3 i4 i5 i6 i7 i8 i9 i10 s0 hmb hV st na6 na7 na63 g54 ggb grw oX y1 b34 oQ n16 n13 n63 kr k199 n75 n76 P' e76 m53 m54 m123 e9' f9 z0 z1 z9 o1 q1 e22 b3 b4 hr; lia)) (by rw [q62]; (clear h hb G3 haa hc P Sm hv hkk E3 e9 n9 i1 i2 i3 i4 i5 i6 i7 i8 i9 i10 s0 hmb hV bnd st na6 na7 na62 na63 g54 ggb grw oX y1 b34 oQ n16 n13 n63 q62 kr k199 n75 n76 P' e76 m53 m54 m123 e9' f9 z0 z1 z9 o1 q1 e22 b3 b4 hr; lia))
    have k193 := (k1 193 (by decide)).trans ((kr 193 (.inr (.inl rfl))).trans st.2.1)
    have k198 := (k1 198 (by decide)).trans ((kr 198 (.inr (.inr rfl))).trans st.2.2.2.2.2.2.1)
    have k9 := (k1 199 (by decide)).trans k199
    have n200 : ∀ i, 0 ≤ i → i < Na 6 63 → N9 200 i = Na 200 i := fun i i0 i1 => by
      rw [(b4 i i0 (by rw [n63]; exact i1)).1, up_ne (by decide), nx_ne (by decide), i6 200 (by decide)]
    have n962 : N9 6 62 = Mq 6 62 + 1 := by rw [n9, Qn_6 (by decide) (by decide), P.2.2.1.2.2 62 (by decide), tM_6 (by decide) (by decide) (by decide)]; exact q62
    have x22 : M9 1 22 = Ma 1 22 := by rw [e22, nX_1 (by decide), i4 22 (by (clear h hb G3 haa hc P Sm hv hkk E3 e9 n9 i1 i2 i3 i4 i5 i6 i7 i8 i9 i10 s0 hmb hV bnd st na6 na7 na62 na63 g54 ggb grw oX y1 b34 oQ n16 n13 n63 q62 kr k199 n75 n76 P' e76 m53 m54 m123 e9' f9 z0 z1 z9 o1 q1 e22 b3 b4 k1 k193 k198 k9 n200 n962; lia))]
    intro hg
    have h22 : nX_ Mx 1 22 = Mx 1 22 := nX_1 (by decide)
    unfold SGB at ggb
    rw [h22, na6 63 (by (clear h hb G3 haa hc P Sm hv hkk E3 e9 n9 i1 i2 i3 i4 i5 i6 i7 i8 i9 i10 s0 hmb hV bnd st na6 na7 na62 na63 g54 ggb grw oX y1 b34 oQ n16 n13 n63 q62 kr k199 n75 n76 P' e76 m53 m54 m123 e9' f9 z0 z1 z9 o1 q1 e22 b3 b4 k1 k193 k198 k9 n200 n962 x22 hg h22; lia))] at ggb
    obtain ⟨u1, u2⟩ := ggb hg
    rw [x22]
    refine ⟨u1, fun s s0 s1 => ?_⟩
    rw [u2 s s0 s1]
    constructor
    · rintro (h | ⟨_, i, hi, hs⟩)
      · exact .inl h
      · exact .inr ⟨Mq 6 62, i, ⟨Int.le_refl _, by (clear h hb G3 haa hc P Sm hv hkk E3 e9 n9 i1 i2 i3 i4 i5 i6 i7 i8 i9 i10 hmb hV bnd st na6 na7 na63 g54 ggb grw oX y1 b34 oQ n16 n13 n63 kr k199 n75 n76 P' e76 m53 m54 m123 e9' f9 z0 z1 z9 o1 q1 e22 b3 b4 k1 k193 k198 k9 n200 x22 hg h22 u1 u2 s0 s1 hi hs; omega)⟩, k193, by rw [k198, k9]; exact hi, by rw [n200 i (by (clear h hb G3 haa hc P Sm hv hkk E3 e9 n9 i1 i2 i3 i4 i5 i6 i7 i8 i9 i10 hmb hV na6 na7 na62 na63 g54 ggb grw oX y1 b34 oQ n16 n13 n63 q62 kr k199 n75 n76 P' e76 m53 m54 m123 e9' f9 z0 z1 z9 o1 q1 e22 b3 b4 k1 k193 k9 n200 n962 x22 hg h22 u1 u2 s0 s1 hs; lia)) hi.2]; exact hs⟩
    · rintro (h | ⟨k, i, hk, h3, hi, hs⟩)
      · exact .inl h
      · rw [show k = Mq 6 62 by (clear h hb G3 haa hc P Sm hv hkk E3 e9 n9 i1 i2 i3 i4 i5 i6 i7 i8 i9 i10 hmb hV bnd st na6 na7 na63 g54 ggb grw oX y1 b34 oQ n16 n13 n63 kr k199 n75 n76 P' e76 m53 m54 m123 e9' f9 z0 z1 z9 o1 q1 e22 b3 b4 k1 k193 k198 k9 n200 x22 hg h22 u1 u2 s0 s1 h3 hi hs; lia), k198, k9] at hi
        rw [n200 i (by (clear h hb G3 haa hc P Sm hv hkk E3 e9 n9 i1 i2 i3 i4 i5 i6 i7 i8 i9 i10 hmb hV na6 na7 na62 na63 g54 ggb grw oX y1 b34 oQ n16 n13 n63 q62 kr k199 n75 n76 P' e76 m53 m54 m123 e9' f9 z0 z1 z9 o1 q1 e22 b3 b4 k1 k193 k9 n200 n962 x22 hg h22 u1 u2 s0 s1 hk h3 hs; lia)) hi.2] at hs
        exact .inr ⟨rfl, i, hi, hs⟩
end GZ
end T214_gr
section T215_gr
/-! growth: SAVE -/
section HA
variable {b F F' : Int} {M' N' Mx Mq : mm_} {a mask : Int}
theorem P_save [Inhabited gh_] (h : SS b F Mx Mq a mask 0) (G : SLG b 1 (nX_ Mx) (stQ_ (nx_ Mq) 1 mask) M' N') : PRS b Mx Mq (nX_ M') (nx_ (nE_ N')) := by
  rcases bl01 (TS_E h.1) with hb | hb
  · exact fun e => by (clear h G; lia)
  have s0 := SS_SCL h hb
  have hV := h.1.1.2.1
  have bnd := h.2.1
  have st := stQ_k (N := nx_ Mq) (w := 1) (mk := mask)
  rw [nx_6 (i := 62) (by decide), nx_6 (i := 61) (by decide), nx_6 (i := 63) (by decide)] at st
  have na6 : ∀ i : Int, i = 13 ∨ i = 61 ∨ i = 63 ∨ i = 75 ∨ i = 76 ∨ i = 90 → stQ_ (nx_ Mq) 1 mask 6 i = Mq 6 i := fun i hi => by rw [stQ_6 (by (clear h G hb s0 hV bnd st; lia)), nx_6 (by (clear h G hb s0 hV bnd st; lia))]
  have n62 : N' 6 62 = Mq 6 62 + 1 := by rw [G.2.1.2.1 62 (by decide), stQ_62, nx_6 (by decide)]
  have n63 : Mq 6 63 ≤ N' 6 63 := by have := G.2.1.2.2.1; rw [na6 63 (by omega)] at this; exact this
  obtain ⟨g54, ggb, grw⟩ := G.2.2.2 hb
  rw [na6 63 (by omega), show nX_ Mx 5 4 = Mx 5 4 by rw [nX_ne (by decide)]] at g54
  have oX : OLX Mx (nX_ M') := OLX_tr OLX_nX (OLX_tr (OLX_SXI G.1) OLX_nX)
  have qa : OLQ (10 * Mx 1 18 + Mx 1 19) (10 * Mx 1 18 + 10) Mq N' := OLQ_tr (Int.le_refl _) OLQ_nx (OLQ_tr (Int.le_refl _) OLQ_st (OLQ_SQI G.2.1))
  have oQ : OLQ (10 * Mx 1 18 + Mx 1 19) (10 * Mx 1 18 + 10) Mq (nx_ (nE_ N')) := OLQ_tr (Int.le_refl _) (OLQ_u qa (by decide) (by (clear h G hb s0 hV bnd st na6 n63 g54 ggb grw oX qa; omega))) OLQ_nx
  have x1 : ∀ i : Int, i = 19 ∨ i = 21 ∨ i = 23 ∨ i = 29 → nX_ M' 1 i = Mx 1 i := fun i hi => by rw [nX_1 (by (clear h G hb s0 hV bnd st na6 n62 n63 g54 ggb grw oX qa oQ; lia)), G.1.2.1 i (by rcases hi with q | q | q | q <;> rw [q] <;> decide), nX_1 (by omega)]
  have q6 : ∀ i : Int, i ≠ 12 → nx_ (nE_ N') 6 i = N' 6 i := fun i hi => by rw [nx_6 hi, nE_r (by decide)]
  have qr : ∀ r : Nat, r ≠ 6 → r ≠ 199 → nx_ (nE_ N') r = N' r := fun r h6 h9 => by rw [nx_ne h6, nE_r h9]
  have q75 : nx_ (nE_ N') 6 75 = Mq 6 75 := by rw [q6 75 (by decide), G.2.1.2.1 75 (by decide), na6 75 (by omega)]
  have q76 : nx_ (nE_ N') 6 76 = Mq 6 76 := by rw [q6 76 (by decide), G.2.1.2.1 76 (by decide), na6 76 (by omega)]
  have q62 : nx_ (nE_ N') 6 62 = Mq 6 62 + 1 := by rw [q6 62 (by decide), n62]
  have k199 : nx_ (nE_ N') 199 (Mq 6 62) = N' 6 63 := by
    rw [nx_ne (by decide)]; unfold nE_; rw [n62, show Mq 6 62 + 1 - 1 = Mq 6 62 by (clear h G hb s0 hV bnd st na6 n62 n63 g54 ggb grw oX qa oQ x1 q6 qr q75 q76 q62; lia), up_at]
  have kr : ∀ r : Nat, r = 192 ∨ r = 193 ∨ r = 198 → nx_ (nE_ N') r (Mq 6 62) = stQ_ (nx_ Mq) 1 mask r (Mq 6 62) := fun r hr => by
    rw [qr r (by (clear h G hb s0 hV bnd st na6 n62 n63 g54 ggb grw oX qa oQ x1 q6 qr q75 q76 q62 k199; lia)) (by (clear h G hb s0 hV bnd st na6 n62 n63 g54 ggb grw oX qa oQ x1 q6 qr q75 q76 q62 k199; lia)), G.2.1.1 r (by unfold qiL; simp only [List.mem_cons, List.not_mem_nil, or_false]; (clear h G hb s0 hV bnd st na6 n62 n63 g54 ggb grw oX qa oQ x1 q6 qr q75 q76 q62 k199; lia))]
  have k193 : nx_ (nE_ N') 193 (Mq 6 62) = 1 := (kr 193 (by (clear h G hb s0 hV bnd st na6 n62 n63 g54 ggb grw oX qa oQ x1 q6 qr q75 q76 q62 k199 kr; lia))).trans st.2.1
  have k198 : nx_ (nE_ N') 198 (Mq 6 62) = Mq 6 63 := (kr 198 (by (clear h G hb s0 hV bnd st na6 n62 n63 g54 ggb grw oX qa oQ x1 q6 qr q75 q76 q62 k199 kr k193; lia))).trans st.2.2.2.2.2.2.1
  refine fun _ => ⟨⟨oX, oQ⟩, by rw [x1 29 (by (clear h G hb s0 hV bnd st na6 n62 n63 g54 ggb grw oX qa oQ x1 q6 qr q75 q76 q62 k199 kr k193 k198; lia)), q76]; (clear h G hb s0 hV bnd st na6 n62 n63 g54 ggb grw oX qa oQ x1 q6 qr q75 q76 q62 k199 kr k193 k198; lia), fun hz => ?_⟩
  rw [q6 13 (by decide)] at hz
  obtain ⟨z1, rws⟩ := grw hz
  rw [na6 13 (by (clear h G hb s0 hV bnd st na6 n62 n63 g54 ggb grw oX qa oQ x1 q6 qr q75 q76 q62 k199 kr k193 k198 hz z1 rws; lia))] at z1
  refine ⟨z1, fun k k0 k1 j j0 j1 => ?_, fun l l0 l1 => by rw [x1 19 (by (clear h G hb s0 hV bnd st na6 n62 n63 g54 ggb grw oX qa oQ x1 q6 qr q75 q76 q62 k199 kr k193 k198 hz z1 rws l0 l1; lia))] at l1; (clear h G hb s0 hV bnd st na6 n62 n63 g54 ggb grw oX qa oQ x1 q6 qr q75 q76 q62 k199 kr k193 k198 hz z1 rws; omega), fun x x0 x1' => by rw [x1 29 (by (clear h G hb s0 hV bnd st na6 n62 n63 g54 ggb grw oX qa oQ x1 q6 qr q75 q76 q62 k199 kr k193 k198 hz z1 rws x0 x1'; lia))] at x1'; (clear h G hb s0 hV bnd st na6 n62 n63 g54 ggb grw oX qa oQ x1 q6 qr q75 q76 q62 k199 kr k193 k198 hz z1 rws; omega), ?_, ?_⟩
  · rw [q62] at k1
    have ek : k = Mq 6 62 := by (clear h G hb s0 hV bnd st na6 n63 g54 ggb grw oX qa oQ x1 q6 qr q75 q76 k199 kr k193 k198 hz z1 rws j0 j1; lia)
    rw [ek] at j1 ⊢
    rw [xsf_c oQ _ (by (clear h G hb s0 hV st na6 n63 g54 ggb grw oX qa oQ x1 q6 qr q75 q76 k199 kr k193 k198 hz z1 rws j0 j1 ek; lia)), s0.2.2]
    unfold nsK at j1
    rw [k193, if_pos (by decide), k198, k199] at j1
    have r0 := rws j j0 (by rw [na6 63 (by omega)]; exact j1)
    rw [na6 61 (by omega), hV.2.1, na6 63 (by omega), show nX_ Mx 5 4 = Mx 5 4 by rw [nX_ne (by decide)]] at r0
    have g192 : nx_ (nE_ N') 192 (Mq 6 62) = Mx 1 18 := by rw [kr 192 (by omega), st.1]; exact hV.2.1
    unfold SRO
    rw [k193, g192, k198]
    exact ⟨fun e => absurd rfl e, fun e => absurd e (by decide), fun e => absurd e (by decide), fun _ => RWI_e r0 (fun r hr => nX_ne (fun e => by rw [e] at hr; revert hr; decide)) (fun r hr => qr r (fun e => by rw [e] at hr; revert hr; decide) (fun e => by rw [e] at hr; revert hr; decide))⟩
  · rw [q75]
    unfold SBS
    rw [x1 21 (by omega), x1 23 (by omega)]
    refine ⟨fun s _ _ => ⟨fun h => .inl h, fun h => ?_⟩, fun s _ _ => ⟨fun h => .inl h, fun h => ?_⟩⟩
    · rcases h with h | ⟨k, h, _⟩
      · exact h
      · (clear G hb s0 hV bnd st na6 n62 n63 g54 ggb grw oX qa oQ x1 q6 qr q75 q76 q62 k199 kr k193 k198 hz z1 rws; omega)
    · rcases h with h | ⟨k, h, _⟩
      · exact h
      · omega
  · intro hg
    have h22 : nX_ Mx 1 22 = Mx 1 22 := nX_1 (by decide)
    unfold SGB at ggb
    rw [h22] at ggb
    obtain ⟨u1, u2⟩ := ggb hg
    rw [nX_1 (by decide)]
    refine ⟨u1, fun s s0 s1 => ?_⟩
    rw [u2 s s0 s1]
    constructor
    · rintro (h | ⟨e, _⟩)
      · exact .inl h
      · exact absurd e (by decide)
    · rintro (h | ⟨k, i, hk, h3, hi, hs⟩)
      · exact .inl h
      · rw [show k = Mq 6 62 by (clear h G hb hV bnd st na6 n63 g54 ggb grw oX qa oQ x1 q6 qr q75 q76 k199 kr k193 k198 hz z1 rws hg h22 u1 u2 s0 s1 h3 hi hs; lia), k193] at h3; exact absurd h3 (by decide)
end HA
end T215_gr
section T216_ln
/-! lines of states: frames -/
/-- the tables of states stay -/
def NST (Mx Mq M N : mm_) : Prop := M 59 = Mx 59 ∧ M 123 = Mx 123 ∧ N 174 = Mq 174 ∧ N 179 = Mq 179 ∧ N 186 = Mq 186
/-- labels of other types, and those behind, stay -/
def LBW (b : Int) (Mx Mq M N : mm_) : Prop := (∀ i, i ≠ Mx 1 18 → M 128 i = Mx 128 i ∧ N 175 i = Mq 175 i) ∧ (∀ i, i < 10 * Mx 1 18 + lc_ b Mx ∨ 10 * Mx 1 18 + 10 ≤ i → M 62 i = Mx 62 i ∧ N 180 i = Mq 180 i ∧ N 187 i = Mq 187 i) ∧ (b = 0 → M 5 3 = Mx 5 3 ∧ M 5 4 = Mx 5 4)
def LNF (b F F' : Int) (Mx Mq M N : mm_) : Prop := XSb Mx M ∧ QSb Mq N ∧ LKP b Mx M ∧ NST Mx Mq M N ∧ (F' ≤ F ∧ (b = 1 → F' = F)) ∧ LBW b Mx Mq M N
section LN
variable {b F F' F2 : Int} {M N M1 N1 M' N' M9 N9 Mx Mq : mm_} {a a' a9 mask mx st mk v kk t p c k : Int}
theorem NST_tr [Inhabited gh_] (h1 : NST Mx Mq M N) (h2 : NST M N M1 N1) : NST Mx Mq M1 N1 := ⟨h2.1.trans h1.1, h2.2.1.trans h1.2.1, h2.2.2.1.trans h1.2.2.1, h2.2.2.2.1.trans h1.2.2.2.1, h2.2.2.2.2.trans h1.2.2.2.2⟩
theorem NST_a [Inhabited gh_] (hx : XA Mx M) (hq : QA Mq N) : NST Mx Mq M N := ⟨hx.1 59 (by decide), hx.1 123 (by decide), hq.1 174 (by decide), hq.1 179 (by decide), hq.1 186 (by decide)⟩
theorem LBW_tr [Inhabited gh_] (hk : LKP b Mx M) (h1 : LBW b Mx Mq M N) (h2 : LBW b M N M1 N1) : LBW b Mx Mq M1 N1 := by
  have h18 := hk.1
  have hl := hk.2.1
  obtain ⟨a1, a2, a3⟩ := h1
  obtain ⟨b1, b2, b3⟩ := h2
  rw [h18] at b1 b2
  refine ⟨fun i hi => ⟨(b1 i hi).1.trans (a1 i hi).1, (b1 i hi).2.trans (a1 i hi).2⟩, fun i hi => ?_, fun hb => ⟨(b3 hb).1.trans (a3 hb).1, (b3 hb).2.trans (a3 hb).2⟩⟩
  have x := b2 i (by omega)
  have y := a2 i hi
  exact ⟨x.1.trans y.1, x.2.1.trans y.2.1, x.2.2.trans y.2.2⟩
theorem LBW_e [Inhabited gh_] (h62 : M 62 = Mx 62) (h128 : M 128 = Mx 128) (h175 : N 175 = Mq 175) (h180 : N 180 = Mq 180) (h187 : N 187 = Mq 187) (h5 : b = 0 → M 5 3 = Mx 5 3 ∧ M 5 4 = Mx 5 4) : LBW b Mx Mq M N := ⟨fun i _ => by rw [h128, h175]; exact ⟨rfl, rfl⟩, fun i _ => by rw [h62, h180, h187]; exact ⟨rfl, rfl, rfl⟩, h5⟩
theorem LNF_tr [Inhabited gh_] (h1 : LNF b F F' Mx Mq M N) (h2 : LNF b F' F2 M N M1 N1) : LNF b F F2 Mx Mq M1 N1 := ⟨XSb_tr h1.1 h2.1, QSb_tr h1.2.1 h2.2.1, LKP_tr h1.2.2.1 h2.2.2.1, NST_tr h1.2.2.2.1 h2.2.2.2.1, ⟨by have := h1.2.2.2.2.1.1; have := h2.2.2.2.2.1.1; omega, fun hb => (h2.2.2.2.2.1.2 hb).trans (h1.2.2.2.2.1.2 hb)⟩, LBW_tr h1.2.2.1 h1.2.2.2.2.2 h2.2.2.2.2.2⟩
theorem LNF_rf [Inhabited gh_] : LNF b F F Mx Mq Mx Mq := ⟨XSb_rf, QSb_rf, LKP_rf, ⟨rfl, rfl, rfl, rfl, rfl⟩, ⟨Int.le_refl _, fun _ => rfl⟩, LBW_e rfl rfl rfl rfl rfl (fun _ => ⟨rfl, rfl⟩)⟩
theorem LNF_x [Inhabited gh_] (hx : XSb Mx M) (hq : QSb Mq N) (hn : NST Mx Mq M N) (hl : N 175 = Mq 175 ∧ N 180 = Mq 180 ∧ N 187 = Mq 187) (h62 : M 62 = Mx 62) (h128 : M 128 = Mx 128) (h18 : M 1 18 = Mx 1 18) (h19 : M 1 19 = Mx 1 19) (h5 : b = 0 → M 5 3 = Mx 5 3 ∧ M 5 4 = Mx 5 4) : LNF b F F Mx Mq M N := ⟨hx, hq, (LKP_X h62 h128 h18 h19).1, hn, ⟨Int.le_refl _, fun _ => rfl⟩, LBW_e h62 h128 hl.1 hl.2.1 hl.2.2 h5⟩
theorem LNF_F [Inhabited gh_] (hx : XF Mx M) (hq : QA Mq N) (hl : N 175 = Mq 175 ∧ N 180 = Mq 180 ∧ N 187 = Mq 187) (h5 : b = 0 → M 5 3 = Mx 5 3) : LNF b F F Mx Mq M N := ⟨XA_XSb (XF_XA hx), QA_QSb hq, (LKP_F hx).1, NST_a (XF_XA hx) hq, ⟨Int.le_refl _, fun _ => rfl⟩, LBW_e (XF_70 hx (by decide) (by decide) (by decide)) (XF_70 hx (by decide) (by decide) (by decide)) hl.1 hl.2.1 hl.2.2 (fun hb => ⟨h5 hb, hx.2.2 4 (by decide)⟩)⟩
theorem hl_QF [Inhabited gh_] (h : QF Mq N) : N 175 = Mq 175 ∧ N 180 = Mq 180 ∧ N 187 = Mq 187 := ⟨h.1 175 (by decide), h.1 180 (by decide), h.1 187 (by decide)⟩
theorem hl_QG [Inhabited gh_] (h : QG Mq N) : N 175 = Mq 175 ∧ N 180 = Mq 180 ∧ N 187 = Mq 187 := ⟨h.1 175 (by decide), h.1 180 (by decide), h.1 187 (by decide)⟩
theorem LNF_t [Inhabited gh_] {me : Int} (P : PRC b F F' (sX_ M1 mx) (tM_ N1 st mk) M' N' a a' 0 0 me) : LNF b F F' M1 N1 (Xn_ M' b kk t) (Qn_ N' b kk p) := by
  have l0 : LKP b M1 (sX_ M1 mx) := (LKP_X (sX_r (by decide) (by decide) (by decide) (by decide) (by decide)) (sX_r (by decide) (by decide) (by decide) (by decide) (by decide)) (sX_1 (by decide)) (sX_1 (by decide))).1
  refine ⟨XSb_tr sX_XSb (XSb_tr (XA_XSb P.2.2.1.1) (XA_XSb (XF_XA Xn_XF))), QSb_tr tM_QSb (QSb_tr (QA_QSb P.2.2.1.2) (QA_QSb (QF_QA (QN_QF QN_Qn)))), LKP_tr l0 (LKP_tr (LKP_P P) (LKP_F Xn_XF).1), NST_tr ⟨sX_r (by decide) (by decide) (by decide) (by decide) (by decide), sX_r (by decide) (by decide) (by decide) (by decide) (by decide), tM_r (by decide) (by decide) (by decide) (by decide) (by decide) (by decide), tM_r (by decide) (by decide) (by decide) (by decide) (by decide) (by decide), tM_r (by decide) (by decide) (by decide) (by decide) (by decide) (by decide)⟩ (NST_tr (NST_a P.2.2.1.1 P.2.2.1.2) (NST_a (XF_XA Xn_XF) (QF_QA (QN_QF QN_Qn)))), P.1, ?_⟩
  have d3 := P.2.2.2.1.2.2.2.1
  have d4 := P.2.2.2.1.2.2.2.2
  have e18 : sX_ M1 mx 1 18 = M1 1 18 := sX_1 (by decide)
  have lce : lc_ b (sX_ M1 mx) = lc_ b M1 := (LKP_X (b := b) (M1 := sX_ M1 mx) (Mx := M1) (sX_r (by decide) (by decide) (by decide) (by decide) (by decide)) (sX_r (by decide) (by decide) (by decide) (by decide) (by decide)) (sX_1 (by decide)) (sX_1 (by decide))).2
  rw [e18] at d3 d4
  rw [lce] at d4
  refine ⟨fun i hi => ?_, fun i hi => ?_, fun hb => ?_⟩
  rotate_left 2
  · rw [Xn_r (by decide), P.2.2.2.2.1.2.2.2.1.2.2 hb, P.2.2.1.1.2.2 4 (by decide), sX_r (by decide) (by decide) (by decide) (by decide) (by decide)]
    exact ⟨rfl, rfl⟩
  · have := d3 i hi
    rw [Xn_r (by decide), Qn_r (by decide), this.1, this.2, sX_r (by decide) (by decide) (by decide) (by decide) (by decide), tM_r (by decide) (by decide) (by decide) (by decide) (by decide) (by decide)]
    exact ⟨rfl, rfl⟩
  · have := d4 i hi
    rw [Xn_r (by decide), Qn_r (by decide), Qn_r (by decide), this.1.1, this.2.1, this.2.2.1, sX_r (by decide) (by decide) (by decide) (by decide) (by decide), tM_r (by decide) (by decide) (by decide) (by decide) (by decide) (by decide), tM_r (by decide) (by decide) (by decide) (by decide) (by decide) (by decide)]
    exact ⟨rfl, rfl, rfl⟩
theorem LNF_y [Inhabited gh_] (h1 : ∀ r : Nat, r ≠ 139 → r ≠ 140 → r ≠ 141 → M9 r = M r) : LNF b F F M N M9 N := by
  have e1 := h1 1 (by decide) (by decide) (by decide)
  exact LNF_x ⟨fun r hr => h1 r (fun e => hr (by rw [e]; decide)) (fun e => hr (by rw [e]; decide)) (fun e => hr (by rw [e]; decide)), fun i _ => by rw [e1], fun i _ _ => by rw [h1 5 (by decide) (by decide) (by decide)]⟩ QSb_rf ⟨h1 59 (by decide) (by decide) (by decide), h1 123 (by decide) (by decide) (by decide), rfl, rfl, rfl⟩ ⟨rfl, rfl, rfl⟩ (h1 62 (by decide) (by decide) (by decide)) (h1 128 (by decide) (by decide) (by decide)) (by rw [e1]) (by rw [e1]) (fun _ => by rw [h1 5 (by decide) (by decide) (by decide)]; exact ⟨rfl, rfl⟩)
theorem QSb_u [Inhabited gh_] {r : Nat} {i v : Int} (hr : r ∈ qbL) (h6 : r ≠ 6) : QSb N (up_ N r i v) := ⟨fun r' h => up_ne (fun e => h (by rw [e]; exact hr)), fun j _ => by rw [up_ne (fun e => h6 e.symm)]⟩
theorem LF_none [Inhabited gh_] (P : PRC b F F' (sX_ (X2_ b (nX_ (nX_ Mx)) 3) (Mx 1 34)) (tM_ (stQ_ (nx_ (nx_ Mq)) 3 mask) 0 mask) M' N' (a + 1 + 1) a' 0 0 (Mq 6 76)) : LNF b F F' Mx Mq (X9_ b (Xn_ M' b kk a') (Mx 5 4) c) (Qn_ N' b kk p) := by
  have l1 : LNF b F F Mx Mq (X2_ b (nX_ (nX_ Mx)) 3) (stQ_ (nx_ (nx_ Mq)) 3 mask) := LNF_tr (LNF_F (XF_tr nX_XF nX_XF) (QA_tr (QF_QA nx_QF) (QF_QA nx_QF)) (hl_QF (QF_tr nx_QF nx_QF)) (fun _ => by rw [nX_ne (by decide), nX_ne (by decide)])) (LNF_x X2_XSb stQ_QSb ⟨X2_r (by decide) (by decide), X2_r (by decide) (by decide), stQ_r (by decide) (by decide), stQ_r (by decide) (by decide), stQ_r (by decide) (by decide)⟩ ⟨stQ_r (by decide) (by decide), stQ_r (by decide) (by decide), stQ_r (by decide) (by decide)⟩ (X2_r (by decide) (by decide)) (X2_r (by decide) (by decide)) (by rw [X2_r (by decide) (by decide)]) (by rw [X2_r (by decide) (by decide)]) (fun hb => by unfold X2_; rw [if_pos hb]; exact ⟨rfl, rfl⟩))
  exact LNF_tr l1 (LNF_tr (LNF_t (kk := kk) (t := a') (p := p) P) (LNF_y fun r _ _ h => X9_r h))
theorem LF_when [Inhabited gh_] (hw : WHF b F F' Mx Mq a mask M9 N9 a9) : LNF b F F' Mx Mq M9 N9 := by
  obtain ⟨Ma, Na, Mb, Nb, aa, ab, pr, M', N', v, kk, hWR, ⟨hab, xfb, b5, b142, hcase⟩, P, Sm, hv, hkk, E3, e9, n9⟩ := hw
  obtain ⟨w1, w2, w3, w4, w5, w6, w7, w8, w9, w10⟩ := hWR
  have l1 : LNF b F F Mx Mq (X2_ b (nX_ Mx) 2) (stQ_ (nx_ Mq) 2 mask) := LNF_tr (LNF_F nX_XF (QF_QA nx_QF) (hl_QF nx_QF) (fun _ => by rw [nX_ne (by decide)])) (LNF_x X2_XSb stQ_QSb ⟨X2_r (by decide) (by decide), X2_r (by decide) (by decide), stQ_r (by decide) (by decide), stQ_r (by decide) (by decide), stQ_r (by decide) (by decide)⟩ ⟨stQ_r (by decide) (by decide), stQ_r (by decide) (by decide), stQ_r (by decide) (by decide)⟩ (X2_r (by decide) (by decide)) (X2_r (by decide) (by decide)) (by rw [X2_r (by decide) (by decide)]) (by rw [X2_r (by decide) (by decide)]) (fun hb => by unfold X2_; rw [if_pos hb]; exact ⟨rfl, rfl⟩))
  have q : QSb Na Nb := by
    rcases hcase with ⟨_, _, q⟩ | ⟨_, q⟩
    · rw [q]; exact QSb_u (by decide) (by decide)
    · rw [q]; exact QSb_tr (QSb_u (by decide) (by decide)) (QSb_tr (QA_QSb (QA_tr (QF_QA nx_QF) (QF_QA nx_QF))) (QSb_u (by decide) (by decide)))
  have qn : ∀ r : Nat, r ∉ [6, 195, 196, 197] → up_ (nx_ Nb) 197 (Mq 6 62) (Nb 6 75) r = Na r := fun r hr => by
    rw [up_ne (fun e => hr (by rw [e]; decide)), nx_ne (fun e => hr (by rw [e]; decide))]
    rcases hcase with ⟨_, _, q⟩ | ⟨_, q⟩
    · rw [q, up_ne (fun e => hr (by rw [e]; decide))]
    · rw [q, up_ne (fun e => hr (by rw [e]; decide)), nx_ne (fun e => hr (by rw [e]; decide)), nx_ne (fun e => hr (by rw [e]; decide)), up_ne (fun e => hr (by rw [e]; decide))]
  have xb : XF (X2_ b (nX_ Mx) 2) (nX_ Mb) := XF_tr w2 (XF_tr pX_XF (XF_tr xfb nX_XF))
  have l2 : LNF b F F (X2_ b (nX_ Mx) 2) (stQ_ (nx_ Mq) 2 mask) (nX_ Mb) (up_ (nx_ Nb) 197 (Mq 6 62) (Nb 6 75)) := ⟨XA_XSb (XF_XA xb), QSb_tr (QA_QSb (QG_QA w3)) (QSb_tr q (QSb_tr (QA_QSb (QF_QA nx_QF)) (QSb_u (by decide) (by decide)))), (LKP_F xb).1, NST_tr (NST_a (XF_XA xb) (QG_QA w3)) ⟨rfl, rfl, qn 174 (by decide), qn 179 (by decide), qn 186 (by decide)⟩, ⟨Int.le_refl _, fun _ => rfl⟩, LBW_e (XF_70 xb (by decide) (by decide) (by decide)) (XF_70 xb (by decide) (by decide) (by decide)) ((qn 175 (by decide)).trans (hl_QG w3).1) ((qn 180 (by decide)).trans (hl_QG w3).2.1) ((qn 187 (by decide)).trans (hl_QG w3).2.2) (fun hb => ⟨by rw [nX_ne (by decide), b5, show pX_ Ma 25 = Ma by unfold pX_; rw [if_pos (w4.2.2.2.2.2.2.1.trans hb)]]; exact w7.2.2 hb, xb.2.2 4 (by decide)⟩)⟩
  rw [e9, n9]
  exact LNF_tr l1 (LNF_tr l2 (LNF_tr (LNF_t (kk := kk) (t := a9) (p := M' 71 a9) P) (LNF_y fun r h1 h2 h3 => Xw_r h1 h2 h3)))
theorem LNF_G [Inhabited gh_] {w : Int} (h : SLG b w M N M1 N1) : LNF b F F M N M1 N1 := LNF_x (SLG_XSb h) (SLG_QSb h) ⟨h.1.1 59 (by decide), h.1.1 123 (by decide), h.2.1.1 174 (by decide), h.2.1.1 179 (by decide), h.2.1.1 186 (by decide)⟩ ⟨h.2.1.1 175 (by decide), h.2.1.1 180 (by decide), h.2.1.1 187 (by decide)⟩ (h.1.1 62 (by decide)) (h.1.1 128 (by decide)) (h.1.2.1 18 (by decide)) (h.1.2.1 19 (by decide)) (fun hb => ⟨h.1.2.2.1 3 (by decide), (h.2.2.1 hb).1⟩)
theorem LF_input [Inhabited gh_] (hw : IPF b F F' Mx Mq a mask M9 N9 a9) : LNF b F F' Mx Mq M9 N9 := by
  obtain ⟨Ma, Na, Mb, Nb, M', N', aa, ab, x2, v, kk, G3, haa, hc, P, Sm, hv, hkk, E3, e9, n9⟩ := hw
  have l1 : LNF b F F Mx Mq (nX_ Mx) (stQ_ (nx_ Mq) 0 mask) := LNF_tr (LNF_F nX_XF (QF_QA nx_QF) (hl_QF nx_QF) (fun _ => by rw [nX_ne (by decide)])) (LNF_x XSb_rf stQ_QSb ⟨rfl, rfl, stQ_r (by decide) (by decide), stQ_r (by decide) (by decide), stQ_r (by decide) (by decide)⟩ ⟨stQ_r (by decide) (by decide), stQ_r (by decide) (by decide), stQ_r (by decide) (by decide)⟩ rfl rfl rfl rfl (fun _ => ⟨rfl, rfl⟩))
  have l3 : LNF b F F Ma Na (nX_ Mb) (up_ (nx_ Nb) 197 (Mq 6 62) (Nb 6 75)) := by
    have l4 : LNF b F F Ma Na Mb Nb := by
      rcases hc with ⟨_, ex, em, en⟩ | ⟨Mc, Nc, hWR, ex, em, en⟩
      · rw [em, en]; exact LNF_x XSb_rf nE_QSb ⟨rfl, rfl, nE_r (by decide), nE_r (by decide), nE_r (by decide)⟩ ⟨nE_r (by decide), nE_r (by decide), nE_r (by decide)⟩ rfl rfl rfl rfl (fun _ => ⟨rfl, rfl⟩)
      · obtain ⟨w1, w2, w3, w4, w5, w6, w7, _⟩ := hWR
        rw [em, en]
        have xf : XF Ma (pX_ Mc 25) := XF_tr nX_XF (XF_tr w2 pX_XF)
        exact ⟨XA_XSb (XF_XA xf), QSb_tr nE_QSb (QSb_tr (QA_QSb (QF_QA nx_QF)) (QSb_tr (QA_QSb (QG_QA w3)) (QSb_u (by decide) (by decide)))), (LKP_F xf).1, NST_tr (NST_tr ⟨rfl, rfl, nE_r (by decide), nE_r (by decide), nE_r (by decide)⟩ (NST_tr (NST_a XA_rf (QF_QA nx_QF)) (NST_a (XF_XA xf) (QG_QA w3)))) ⟨rfl, rfl, up_ne (by decide), up_ne (by decide), up_ne (by decide)⟩, ⟨Int.le_refl _, fun _ => rfl⟩, LBW_e (XF_70 xf (by decide) (by decide) (by decide)) (XF_70 xf (by decide) (by decide) (by decide)) (by rw [up_ne (by decide), (hl_QG w3).1, nx_ne (by decide), nE_r (by decide)]) (by rw [up_ne (by decide), (hl_QG w3).2.1, nx_ne (by decide), nE_r (by decide)]) (by rw [up_ne (by decide), (hl_QG w3).2.2, nx_ne (by decide), nE_r (by decide)]) (fun hb => ⟨by rw [show pX_ Mc 25 = Mc by unfold pX_; rw [if_pos (w4.2.2.2.2.2.2.1.trans hb)], w7.2.2 hb, nX_ne (by decide)], xf.2.2 4 (by decide)⟩)⟩
    exact LNF_tr l4 (LNF_tr (LNF_F nX_XF (QF_QA nx_QF) (hl_QF nx_QF) (fun _ => by rw [nX_ne (by decide)])) (LNF_x XSb_rf (QSb_u (by decide) (by decide)) ⟨rfl, rfl, up_ne (by decide), up_ne (by decide), up_ne (by decide)⟩ ⟨up_ne (by decide), up_ne (by decide), up_ne (by decide)⟩ rfl rfl rfl rfl (fun _ => ⟨rfl, rfl⟩)))
  rw [e9, n9]
  exact LNF_tr l1 (LNF_tr (LNF_G G3) (LNF_tr l3 (LNF_tr (LNF_t (kk := kk) (t := a9) (p := M' 71 a9) P) (LNF_y fun r h1 h2 h3 => xiF_r h1 h3 _ _ _))))
theorem LF_save [Inhabited gh_] (G : SLG b 1 (nX_ Mx) (stQ_ (nx_ Mq) 1 mask) M' N') : LNF b F F Mx Mq (nX_ M') (nx_ (nE_ N')) := by
  have l1 : LNF b F F Mx Mq (nX_ Mx) (stQ_ (nx_ Mq) 1 mask) := LNF_tr (LNF_F nX_XF (QF_QA nx_QF) (hl_QF nx_QF) (fun _ => by rw [nX_ne (by decide)])) (LNF_x XSb_rf stQ_QSb ⟨rfl, rfl, stQ_r (by decide) (by decide), stQ_r (by decide) (by decide), stQ_r (by decide) (by decide)⟩ ⟨stQ_r (by decide) (by decide), stQ_r (by decide) (by decide), stQ_r (by decide) (by decide)⟩ rfl rfl rfl rfl (fun _ => ⟨rfl, rfl⟩))
  exact LNF_tr l1 (LNF_tr (LNF_G G) (LNF_tr (LNF_x XSb_rf nE_QSb ⟨rfl, rfl, nE_r (by decide), nE_r (by decide), nE_r (by decide)⟩ ⟨nE_r (by decide), nE_r (by decide), nE_r (by decide)⟩ rfl rfl rfl rfl (fun _ => ⟨rfl, rfl⟩)) (LNF_F nX_XF (QF_QA nx_QF) (hl_QF nx_QF) (fun _ => by rw [nX_ne (by decide)]))))
end LN
end T216_ln

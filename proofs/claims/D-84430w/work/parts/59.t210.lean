section T210_gr
/-! growth: what a trans adds -/
section GV2
variable {b F F' : Int} {M N M1 N1 M' N' Mx Mq : mm_} {lb ub T k c y i x me f a a' mask mx st mk v kk t p : Int}
theorem NEW_t [Inhabited gh_] (hb : b = 1) (h19 : 0 ≤ M1 1 19) (h53 : 0 ≤ M1 5 3) (h75 : 0 ≤ N1 6 75) (h90 : 0 ≤ N1 6 90) (h61 : N1 6 61 = M1 1 18) (hmb : (mx = -1 ∧ st ≠ 0) ∨ (mx ≠ -1 ∧ st = 0 ∧ MB (M1 123 (M1 1 18)) mx mk))
    (P : PRC b F F' (sX_ M1 mx) (tM_ N1 st mk) M' N' a a' 0 0 (N1 6 76)) (Sm : SEM b (sX_ M1 mx) (tM_ N1 st mk) M' N' v) (hv : v = 1) (hz : N' 6 13 = 0) :
    N1 6 13 = 0 ∧ ATP M' N' (M1 1 18) (N1 6 75) (M1 5 3) ∧ (∀ l, M1 1 19 ≤ l → l < M' 1 19 → ATP M' N' (M1 1 18) (N' 188 (10 * M1 1 18 + l)) (M' 129 (10 * M1 1 18 + l)) ∧ N' 189 (10 * M1 1 18 + l) = N1 6 76) ∧ TRW M' N' (M1 1 18) (M1 1 19) (M1 1 29) (N1 6 76) ∧ SBS M1 M' N' (N1 6 75) (N' 6 75) := by
  obtain ⟨z, sg, sb⟩ := Sm hb hz
  obtain ⟨f1, e1, ⟨xa, qa⟩, ⟨⟨c1, c2, c3, c4, c5, c6, c7⟩, d1, d2, d3, d4⟩, ⟨p1, p2, p3, p4, p5, p6⟩, l1, m1, t1, t2, t3⟩ := P
  obtain ⟨u1, u2, u3, u4, u5, u6, u7⟩ := t3 hb
  have s1 : ∀ i : Int, i ≠ 29 → sX_ M1 mx 1 i = M1 1 i := fun i h => sX_1 h
  have s29 : sX_ M1 mx 1 29 = M1 1 29 + 1 := by unfold sX_; rw [up_at]
  have s5 : sX_ M1 mx 5 = M1 5 := sX_r (by decide) (by decide) (by decide) (by decide) (by decide)
  have s64 : sX_ M1 mx 64 (M1 1 29) = 0 := by unfold sX_; rw [up_ne (by decide), up_ne (by decide), up_at]
  have s66 : sX_ M1 mx 66 (M1 1 29) = mx := by unfold sX_; rw [up_ne (by decide), up_ne (by decide), up_ne (by decide), up_ne (by decide), up_at]
  have t6 : ∀ i : Int, i ≠ 76 → i ≠ 102 → i ≠ 103 → tM_ N1 st mk 6 i = N1 6 i := fun i h1 h2 h3 => tM_6 h1 h2 h3
  have g211 : tM_ N1 st mk 211 (N1 6 76) = N1 6 61 := by unfold tM_; rw [up_ne (by decide), up_ne (by decide), up_ne (by decide), up_ne (by decide), up_ne (by decide), up_ne (by decide), up_at]
  have g212 : tM_ N1 st mk 212 (N1 6 76) = mk := by unfold tM_; rw [up_ne (by decide), up_ne (by decide), up_ne (by decide), up_ne (by decide), up_ne (by decide), up_at]
  have g215 : tM_ N1 st mk 215 (N1 6 76) = st := by unfold tM_; rw [up_ne (by decide), up_ne (by decide), up_ne (by decide), up_ne (by decide), up_at]
  rw [t6 13 (by decide) (by decide) (by decide)] at z
  rw [t6 61 (by decide) (by decide) (by decide), t6 75 (by decide) (by decide) (by decide), t6 90 (by decide) (by decide) (by decide), s5, s1 19 (by decide), h61, hv] at sg
  rw [t6 75 (by decide) (by decide) (by decide)] at sb
  rw [s5] at p4
  have at9 := ATP_s sg ⟨h75, Int.le_refl _⟩ ⟨h53, Int.le_refl _⟩ ⟨h90, Int.le_refl _⟩ (Int.le_refl _)
  rw [s1 18 (by decide), s1 19 (by decide)] at u6
  rw [s1 19 (by decide), s29, show M1 1 29 + 1 - 1 = M1 1 29 by omega, s64] at u7
  have x29 : M' 1 29 - 1 = M1 1 29 := by rw [xa.2.1 29 (by decide), s29]; omega
  have mk1 := m1.1 hb
  rw [x29] at mk1
  have x18 : M' 1 18 = M1 1 18 := by rw [xa.2.1 18 (by decide), s1 18 (by decide)]
  refine ⟨z, at9.1, fun l a b => ⟨at9.2 l a b, u6 l a b⟩, ⟨by rw [qa.1 211 (by decide), g211]; exact h61, ?_, ⟨mk1.1.1, by have z9 := mk1.1.2; rw [x18] at z9; exact z9⟩, ⟨mk1.2.1.1, mk1.2.1.2⟩, mk1.2.2, fun l l0 l1 => ?_⟩, ?_⟩
  · rw [xa.1 66 (by decide), s66, qa.1 215 (by decide), g215, qa.1 212 (by decide), g212, xa.1 123 (by decide), sX_r (by decide) (by decide) (by decide) (by decide) (by decide)]
    exact hmb
  · rw [u7 l l0 l1]
    constructor
    · rintro (h | h)
      · exact absurd h bt_0
      · exact ⟨h.1, h.2, u6 l h.1 h.2⟩
    · exact fun h => .inr ⟨h.1, h.2.1⟩
  · unfold SBS at sb ⊢
    rw [s1 21 (by decide), s1 23 (by decide)] at sb
    exact sb
end GV2
end T210_gr
section T211_gr
/-! growth: a line with a trans -/
section GW
variable {b F F' : Int} {M N M1 N1 M' N' M9 N9 Mx Mq : mm_} {a a' mask mx st mk v kk t p : Int}
theorem OLX_y [Inhabited gh_] (h : OLX M M1) (h1 : ∀ r : Nat, r ≠ 139 → r ≠ 140 → r ≠ 141 → M9 r = M1 r) (h2 : ∀ (r : Nat) i, i < M 5 4 → M9 r i = M1 r i) : OLX M M9 := by
  obtain ⟨⟨a1, a2, a3⟩, m, a4, a5, a6, a7, a8⟩ := h
  have e1 := h1 1 (by decide) (by decide) (by decide)
  have e5 := h1 5 (by decide) (by decide) (by decide)
  refine ⟨⟨fun r hr => (h1 r (fun e => hr (by rw [e]; decide)) (fun e => hr (by rw [e]; decide)) (fun e => hr (by rw [e]; decide))).trans (a1 r hr), fun i hi => by rw [e1]; exact a2 i hi, fun i h h' => by rw [e5]; exact a3 i h h'⟩, by rw [e5, e1]; exact m, fun i x y => by rw [h1 142 (by decide) (by decide) (by decide)]; exact a4 i x y, fun r i hr x y => (h2 r i y).trans (a5 r i hr x y), fun i x y => by rw [h1 137 (by decide) (by decide) (by decide)]; exact a6 i x y, fun r i hr x y => ?_, fun i hi => by rw [h1 129 (by decide) (by decide) (by decide)]; exact a8 i hi⟩
  rw [h1 r (fun e => by rw [e] at hr; revert hr; decide) (fun e => by rw [e] at hr; revert hr; decide) (fun e => by rw [e] at hr; revert hr; decide)]; exact a7 r i hr x y
theorem PRS_ln [Inhabited gh_] (hb : b = 1) (s0 : SCL Mx Mq) (o : OLD Mx Mq M1 N1) (e29 : M1 1 29 = Mx 1 29) (e19 : M1 1 19 = Mx 1 19) (e21 : M1 1 21 = Mx 1 21) (e23 : M1 1 23 = Mx 1 23) (e76 : N1 6 76 = Mq 6 76) (e75 : N1 6 75 = Mq 6 75) (h53 : 0 ≤ M1 5 3) (h90 : 0 ≤ N1 6 90) (h61 : N1 6 61 = M1 1 18) (hmb : (mx = -1 ∧ st ≠ 0) ∨ (mx ≠ -1 ∧ st = 0 ∧ MB (M1 123 (M1 1 18)) mx mk)) (z1 : N1 6 13 = 0 → Mq 6 13 = 0)
    (P : PRC b F F' (sX_ M1 mx) (tM_ N1 st mk) M' N' a a' 0 0 (N1 6 76)) (Sm : SEM b (sX_ M1 mx) (tM_ N1 st mk) M' N' v) (hv : v = 0 ∨ v = 1) (hkk : kk = if v = 0 then 6 else 0) (E3 : b = 1 → Qn_ N' b kk p 6 13 = 0 → kk = 0 ∧ N' 6 13 = 0)
    (h1 : ∀ r : Nat, r ≠ 139 → r ≠ 140 → r ≠ 141 → M9 r = Xn_ M' b kk t r) (h2 : ∀ (r : Nat) i, i < Mx 5 4 → M9 r i = Xn_ M' b kk t r i) (h9 : N9 = Qn_ N' b kk p)
    (h62 : N1 6 62 = Mq 6 62 + 1) (hst : N1 6 13 = 0 → N9 6 13 = 0 → OLX M1 (Xn_ M' b kk t) → OLQ (10 * M1 1 18 + M1 1 19) (10 * M1 1 18 + 10) N1 N9 → ATP M9 N9 (Mx 1 18) (N1 6 75) (M1 5 3) → ∀ j, 0 ≤ j → j < nsK N9 (Mq 6 62) → SRO M9 N9 (Mq 6 62) (Mx 5 4 + j) (N9 198 (Mq 6 62) + j)) (hg : N1 6 13 = 0 → N9 6 13 = 0 → OLX M1 (Xn_ M' b kk t) → OLQ (10 * M1 1 18 + M1 1 19) (10 * M1 1 18 + 10) N1 N9 → M9 1 22 = M1 1 22 → GTB Mx Mq M9 N9) : PRS b Mx Mq M9 N9 := by
  have z0 := s0.1
  obtain ⟨ot, x29, q76⟩ := OLD_t hb (by omega) P
  have o1 : OLX M1 (Xn_ M' b kk t) := OLX_tr ot.1 OLX_Xn
  have q1 : OLQ (10 * M1 1 18 + M1 1 19) (10 * M1 1 18 + 10) N1 N9 := by rw [h9]; exact OLQ_tr (Int.le_refl _) ot.2 OLQ_Qn
  have e18 : M1 1 18 = Mx 1 18 := o.1.1.2.1 18 (by decide)
  have q1' := q1
  rw [e18] at q1'
  have oX : OLX Mx M9 := OLX_y (OLX_tr o.1 o1) h1 h2
  have oD : OLD Mx Mq M9 N9 := ⟨oX, OLQ_tr (by omega) o.2 q1'⟩
  have y1 : ∀ i : Int, i ≠ 4 → i ≠ 5 → i ≠ 7 → M9 1 i = M' 1 i := fun i h4 h5 h7 => by rw [h1 1 (by decide) (by decide) (by decide), Xn_1 h4 h5 h7]
  have yr : ∀ r : Nat, r ≠ 1 → r ≠ 139 → r ≠ 140 → r ≠ 141 → M9 r = M' r := fun r h0 h h' h'' => by rw [h1 r h h' h'', Xn_r h0]
  have n6 : ∀ i : Int, i ≠ 13 → i ≠ 14 → N9 6 i = N' 6 i := fun i h h' => by rw [h9, Qn_6 h h']
  have nr : ∀ r : Nat, r ≠ 6 → N9 r = N' r := fun r h => by rw [h9, Qn_r h]
  refine fun _ => ⟨oD, by rw [y1 29 (by decide) (by decide) (by decide), n6 76 (by decide) (by decide)]; omega, fun hz => ?_⟩
  have ez := E3 hb (by rw [← h9]; exact hz)
  have hv1 : v = 1 := by
    rcases hv with h | h
    · rw [if_pos h] at hkk; omega
    · exact h
  obtain ⟨zz, atp, lb, tw, sb⟩ := NEW_t hb (by omega) h53 (by omega) h90 h61 hmb P Sm hv1 ez.2
  rw [e18] at atp lb tw
  have qz : OLQ 0 0 N' N9 := by rw [h9]; exact OLQ_Qn
  have up : ∀ {k c : Int}, ATP M' N' (Mx 1 18) k c → ATP M9 N9 (Mx 1 18) k c := fun h => ATP_g h (by rw [yr 5 (by decide) (by decide) (by decide) (by decide)]; exact Int.le_refl _) (fun i _ _ => by rw [yr 142 (by decide) (by decide) (by decide) (by decide)]) qz
  have x8 : nsK N9 (Mq 6 62) = nsK N9 (Mq 6 62) := rfl
  have n62 : N9 6 62 = Mq 6 62 + 1 := by
    rw [n6 62 (by decide) (by decide), P.2.2.1.2.2 62 (by decide), tM_6 (by decide) (by decide) (by decide)]; exact h62
  refine ⟨z1 zz, fun k k0 k1 j j0 j1 => ?_, fun l l0 l1 => ?_, fun x x0 x1 => ?_, ?_, hg zz hz o1 q1 (by rw [y1 22 (by decide) (by decide) (by decide), P.2.2.1.1.2.1 22 (by decide), sX_1 (by decide)])⟩
  · rw [n62] at k1
    have ek : k = Mq 6 62 := by omega
    rw [ek] at j1 ⊢
    rw [xsf_c oD.2 _ (by omega), s0.2.2]
    exact hst zz hz o1 q1 (up atp) j j0 j1
  · rw [y1 19 (by decide) (by decide) (by decide)] at l1
    have := lb l (by omega) l1
    rw [nr 188 (by decide), nr 189 (by decide), yr 129 (by decide) (by decide) (by decide) (by decide), n6 76 (by decide) (by decide)]
    exact ⟨up this.1, by omega, by omega⟩
  · rw [y1 29 (by decide) (by decide) (by decide)] at x1
    rw [show x = M1 1 29 by omega, show Mq 6 76 + (M1 1 29 - Mx 1 29) = N1 6 76 by omega]
    rw [e19] at tw
    unfold TRW at tw ⊢
    rw [nr 211 (by decide), nr 215 (by decide), nr 212 (by decide), nr 213 (by decide), nr 214 (by decide), nr 189 (by decide), yr 66 (by decide) (by decide) (by decide) (by decide), yr 123 (by decide) (by decide) (by decide) (by decide), yr 63 (by decide) (by decide) (by decide) (by decide), yr 65 (by decide) (by decide) (by decide) (by decide), yr 64 (by decide) (by decide) (by decide) (by decide), y1 19 (by decide) (by decide) (by decide)]
    exact tw
  · unfold SBS at sb ⊢
    rw [e75] at sb
    rw [e21, e23] at sb
    rw [y1 21 (by decide) (by decide) (by decide), y1 23 (by decide) (by decide) (by decide), nr 203 (by decide), nr 205 (by decide), n6 75 (by decide) (by decide)]
    exact sb
end GW
end T211_gr
section T212_gr
/-! growth: NONE, WHEN -/
section GX
variable {b F F' : Int} {M N M1 N1 M' N' M9 N9 Mx Mq : mm_} {a a' a9 mask w s mk v kk lb ub : Int}
theorem OLX_st [Inhabited gh_] : OLX M (stX_ M w s) := by
  refine ⟨⟨fun r hr => stX_r (fun e => hr (by rw [e]; decide)) (fun h => hr (by revert h; unfold stxL xeL; simp only [List.mem_cons, List.not_mem_nil, or_false]; omega)), fun i _ => by rw [stX_r (by decide) (by decide)], fun i _ h4 => stX_5 h4⟩, ⟨by rw [stX_5 (by decide)]; exact Int.le_refl _, by rw [stX_54]; omega, by rw [stX_r (by decide) (by decide)]; exact Int.le_refl _, by rw [stX_r (by decide) (by decide)]; exact Int.le_refl _⟩, fun i _ _ => by rw [stX_r (by decide) (by decide)], fun r i hr _ y => ?_, fun i _ _ => by rw [stX_r (by decide) (by decide)], fun r i hr _ _ => ?_, fun i _ => by rw [stX_r (by decide) (by decide)]⟩
  · by_cases c : r = 141
    · rw [c, stX_r (by decide) (by decide)]
    · exact stX_o (by revert hr; unfold st9L stxL; simp only [List.mem_cons, List.not_mem_nil, or_false]; omega) (by omega)
  · rw [stX_r (fun e => by rw [e] at hr; revert hr; decide) (by revert hr; unfold txL stxL; simp only [List.mem_cons, List.not_mem_nil, or_false]; omega)]
theorem OLQ_st [Inhabited gh_] : OLQ lb ub N (stQ_ N w mk) := by
  have e : ∀ r : Nat, r ≠ 6 → r ∉ stqL → stQ_ N w mk r = N r := fun r h h' => stQ_r h h'
  refine ⟨⟨fun r hr => e r (fun e => hr (by rw [e]; decide)) (fun h => hr (by revert h; unfold stqL qeL; simp only [List.mem_cons, List.not_mem_nil, or_false]; omega)), fun i hi => stQ_6 (nm_i hi (by decide))⟩, ⟨by rw [stQ_62]; omega, by rw [stQ_6 (by decide)]; exact Int.le_refl _, by rw [stQ_6 (by decide)]; exact Int.le_refl _, by rw [stQ_6 (by decide)]; exact Int.le_refl _, by rw [stQ_6 (by decide)]; exact Int.le_refl _, by rw [stQ_6 (by decide)]; exact Int.le_refl _⟩, fun r i hr _ y => stQ_o (by revert hr; unfold sq9L stqL; exact fun h => h) (by omega), fun i _ _ => by rw [e 200 (by decide) (by decide), e 201 (by decide) (by decide)]; exact ⟨rfl, rfl⟩, fun i _ _ => by rw [e 202 (by decide) (by decide)], fun r i hr _ _ => ?_, fun i _ _ => by rw [e 209 (by decide) (by decide)], fun r i hr _ _ => ?_, fun i _ _ => by rw [e 227 (by decide) (by decide), e 228 (by decide) (by decide)]; exact ⟨rfl, rfl⟩, fun r i hr _ _ => ?_, fun i _ => by rw [e 188 (by decide) (by decide), e 189 (by decide) (by decide)]; exact ⟨rfl, rfl⟩⟩
  · rw [e r (fun e => by rw [e] at hr; revert hr; decide) (by revert hr; unfold opL stqL; simp only [List.mem_cons, List.not_mem_nil, or_false]; omega)]
  · rw [e r (fun e => by rw [e] at hr; revert hr; decide) (by revert hr; unfold rgR stqL; simp only [List.mem_cons, List.not_mem_nil, or_false]; omega)]
  · rw [e r (fun e => by rw [e] at hr; revert hr; decide) (by revert hr; unfold tqL stqL; simp only [List.mem_cons, List.not_mem_nil, or_false]; omega)]
theorem OLX_X2 [Inhabited gh_] (hb : b = 1) : OLX M (X2_ b M w) := by unfold X2_; rw [if_neg (by omega)]; exact OLX_st
theorem GTB_n [Inhabited gh_] (h22 : M 1 22 = Mx 1 22) (h62 : N 6 62 = Mq 6 62 + 1) (h3 : N 193 (Mq 6 62) ≠ 0) : GTB Mx Mq M N := fun h => by
  rw [h22]
  refine ⟨h, fun s _ _ => ⟨fun h => .inl h, fun h => ?_⟩⟩
  rcases h with h | ⟨k, i, hk, h4, _⟩
  · exact h
  · rw [show k = Mq 6 62 by omega] at h4; exact absurd h4 h3
theorem P_none [Inhabited gh_] (h : SS b F Mx Mq a mask 0) (P : PRC b F F' (sX_ (X2_ b (nX_ (nX_ Mx)) 3) (Mx 1 34)) (tM_ (stQ_ (nx_ (nx_ Mq)) 3 mask) 0 mask) M' N' (a + 1 + 1) a' 0 0 (Mq 6 76)) (Sm : SEM b (sX_ (X2_ b (nX_ (nX_ Mx)) 3) (Mx 1 34)) (tM_ (stQ_ (nx_ (nx_ Mq)) 3 mask) 0 mask) M' N' v) (hv : v = 0 ∨ v = 1) (hkk : kk = if v = 0 then 6 else 0) (E3 : b = 1 → Qn_ N' b kk (M' 71 a') 6 13 = 0 → kk = 0 ∧ N' 6 13 = 0) : PRS b Mx Mq (X9_ b (Xn_ M' b kk a') (Mx 5 4) (Mx 5 3)) (Qn_ N' b kk (M' 71 a')) := by
  rcases bl01 (TS_E h.1) with hb | hb
  · exact fun e => by omega
  have s0 := SS_SCL h hb
  have hmb := (h.2.2.2 hb).2.2
  have hV := h.1.1.2.1
  have oX : OLX Mx (X2_ b (nX_ (nX_ Mx)) 3) := OLX_tr OLX_nX (OLX_tr OLX_nX (OLX_X2 hb))
  have oQ : OLQ (10 * Mx 1 18 + Mx 1 19) (10 * Mx 1 18 + 10) Mq (stQ_ (nx_ (nx_ Mq)) 3 mask) := OLQ_tr (Int.le_refl _) OLQ_nx (OLQ_tr (Int.le_refl _) OLQ_nx OLQ_st)
  have x1 : ∀ i : Int, i ≠ 3 → X2_ b (nX_ (nX_ Mx)) 3 1 i = Mx 1 i := fun i hi => by rw [X2_r (by decide) (by decide), nX_1 hi, nX_1 hi]
  have x53 : X2_ b (nX_ (nX_ Mx)) 3 5 3 = Mx 5 3 := by rw [X2_5 (by decide), nX_ne (by decide), nX_ne (by decide)]
  have x123 : X2_ b (nX_ (nX_ Mx)) 3 123 = Mx 123 := by rw [X2_r (by decide) (by decide), nX_ne (by decide), nX_ne (by decide)]
  have q6 : ∀ i : Int, i ≠ 12 → i ≠ 62 → stQ_ (nx_ (nx_ Mq)) 3 mask 6 i = Mq 6 i := fun i h h' => by rw [stQ_6 h', nx_6 h, nx_6 h]
  have q62 : stQ_ (nx_ (nx_ Mq)) 3 mask 6 62 = Mq 6 62 + 1 := by rw [stQ_62, nx_6 (by decide), nx_6 (by decide)]
  have st := stQ_k (N := nx_ (nx_ Mq)) (w := 3) (mk := mask)
  rw [nx_6 (i := 62) (by decide), nx_6 (i := 62) (by decide), nx_6 (i := 61) (by decide), nx_6 (i := 61) (by decide), nx_6 (i := 75) (by decide), nx_6 (i := 75) (by decide)] at st
  have q76 := q6 76 (by decide) (by decide)
  have P' := P
  rw [← q76] at P'
  have X9e : ∀ r : Nat, r ≠ 141 → X9_ b (Xn_ M' b kk a') (Mx 5 4) (Mx 5 3) r = Xn_ M' b kk a' r := fun r h => X9_r h
  have bnd := h.2.1
  refine PRS_ln hb s0 ⟨oX, oQ⟩ (x1 29 (by decide)) (x1 19 (by decide)) (x1 21 (by decide)) (x1 23 (by decide)) q76 (q6 75 (by decide) (by decide)) (by rw [x53]; have := ER_st (TS_E h.1); omega) (by rw [q6 90 (by decide) (by decide)]; exact h.1.2.2.2.2.2.2.1.1) (by rw [q6 61 (by decide) (by decide), x1 18 (by decide)]; exact hV.2.1) (.inr ⟨by have := hmb.1; omega, rfl, by rw [x123, x1 18 (by decide)]; exact hmb⟩) (fun e => by rw [q6 13 (by decide) (by decide)] at e; exact e) P' Sm hv hkk E3 (fun r _ _ h1 => X9e r h1) (fun r i hi => ?_) rfl q62 (fun z1 z9 o1 q1 atp j j0 j1 => ?_) (fun z1 z9 o1 q1 e22 => ?_)
  · unfold X9_; rw [if_neg (by omega), up_of2 (by omega)]
  · have b3 := q1.2.2.1
    have k1 : ∀ r : Nat, r ∈ sq9L → Qn_ N' b kk (M' 71 a') r (Mq 6 62) = stQ_ (nx_ (nx_ Mq)) 3 mask r (Mq 6 62) := fun r hr => b3 r (Mq 6 62) hr (by omega) (by rw [q62]; omega)
    have k193 := (k1 193 (by decide)).trans st.2.1
    unfold nsK at j1
    rw [k193, if_neg (by decide)] at j1
    rw [show j = 0 by omega, show Mx 5 4 + 0 = Mx 5 4 by omega]
    unfold SRO
    rw [k193]
    refine ⟨fun _ => ?_, fun e => absurd e (by decide), fun e => absurd e (by decide), fun e => absurd e (by decide)⟩
    rw [k1 192 (by decide), st.1, k1 197 (by decide), st.2.2.2.2.2.1]
    have e141 : X9_ b (Xn_ M' b kk a') (Mx 5 4) (Mx 5 3) 141 (Mx 5 4) = Mx 5 3 := by unfold X9_; rw [if_neg (by omega), up_at]
    rw [e141]
    rw [q6 75 (by decide) (by decide), x53] at atp
    rw [hV.2.1]
    exact atp
  · have b3 := q1.2.2.1
    have k193 : Qn_ N' b kk (M' 71 a') 193 (Mq 6 62) = 3 := (b3 193 (Mq 6 62) (by decide) (by omega) (by rw [q62]; omega)).trans st.2.1
    refine GTB_n (e22.trans (x1 22 (by decide))) ?_ (by rw [k193]; decide)
    rw [Qn_6 (by decide) (by decide), P.2.2.1.2.2 62 (by decide), tM_6 (by decide) (by decide) (by decide)]; exact q62
end GX
end T212_gr
section T213_gr
/-! growth: WHEN -/
section GY
variable {b F F' : Int} {M N M1 N1 M' N' M9 N9 Mx Mq : mm_} {a a' a9 mask w s mk v kk lb ub T c f : Int}
theorem OLX_XF [Inhabited gh_] (h : XF M M1) (h53 : M 5 3 ≤ M1 5 3) (hc : ∀ i, 0 ≤ i → i < M 5 3 → M1 142 i = M 142 i) : OLX M M1 := by
  have e : ∀ r : Nat, r ≠ 1 → r ≠ 5 → r ≠ 142 → M1 r = M r := fun r h1 h5 h2 => h.1 r (by simp only [List.mem_cons, List.not_mem_nil, or_false, not_or]; exact ⟨h1, h5, h2⟩)
  refine ⟨⟨fun r hr => e r (fun c => hr (by rw [c]; decide)) (fun c => hr (by rw [c]; decide)) (fun c => hr (by rw [c]; decide)), fun i hi => h.2.1 i (nm_i hi (by decide)) (nm_i hi (by decide)) (nm_i hi (by decide)) (nm_i hi (by decide)) (nm_i hi (by decide)), fun i h3 _ => h.2.2 i h3⟩, ⟨h53, by rw [h.2.2 4 (by decide)]; exact Int.le_refl _, by rw [h.2.1 29 (by decide) (by decide) (by decide) (by decide) (by decide)]; exact Int.le_refl _, by rw [h.2.1 19 (by decide) (by decide) (by decide) (by decide) (by decide)]; exact Int.le_refl _⟩, hc, fun r i hr _ _ => ?_, fun i _ _ => by rw [e 137 (by decide) (by decide) (by decide)], fun r i hr _ _ => ?_, fun i _ => by rw [e 129 (by decide) (by decide) (by decide)]⟩
  · rw [e r (fun c => by rw [c] at hr; revert hr; decide) (fun c => by rw [c] at hr; revert hr; decide) (fun c => by rw [c] at hr; revert hr; decide)]
  · rw [e r (fun c => by rw [c] at hr; revert hr; decide) (fun c => by rw [c] at hr; revert hr; decide) (fun c => by rw [c] at hr; revert hr; decide)]
theorem OLQ_QG [Inhabited gh_] (h : QG N N1) (h104 : N 6 104 ≤ N1 6 104) (hf : ∀ i, 0 ≤ i → i < N 6 104 → N1 227 i = N 227 i ∧ N1 228 i = N 228 i) : OLQ lb ub N N1 := by
  have e : ∀ r : Nat, r ∉ [6, 227, 228, 229, 230, 231, 232, 233, 234] → N1 r = N r := h.1
  have q6 : ∀ i : Int, i = 62 ∨ i = 63 ∨ i = 75 ∨ i = 76 ∨ i = 90 → N1 6 i = N 6 i := fun i hi => h.2 i (by omega) (by omega) (by omega) (by omega) (by omega) (by omega) (by omega) (by omega) (by omega) (by omega) (by omega)
  refine ⟨⟨fun r hr => e r (fun c => hr (by revert c; unfold qeL; simp only [List.mem_cons, List.not_mem_nil, or_false]; omega)), fun i hi => h.2 i (nm_i hi (by decide)) (nm_i hi (by decide)) (nm_i hi (by decide)) (nm_i hi (by decide)) (nm_i hi (by decide)) (nm_i hi (by decide)) (nm_i hi (by decide)) (nm_i hi (by decide)) (nm_i hi (by decide)) (nm_i hi (by decide)) (nm_i hi (by decide))⟩, ⟨by rw [q6 62 (by omega)]; exact Int.le_refl _, by rw [q6 63 (by omega)]; exact Int.le_refl _, by rw [q6 75 (by omega)]; exact Int.le_refl _, by rw [q6 76 (by omega)]; exact Int.le_refl _, by rw [q6 90 (by omega)]; exact Int.le_refl _, h104⟩, fun r i hr _ _ => ?_, fun i _ _ => by rw [e 200 (by decide), e 201 (by decide)]; exact ⟨rfl, rfl⟩, fun i _ _ => by rw [e 202 (by decide)], fun r i hr _ _ => ?_, fun i _ _ => by rw [e 209 (by decide)], fun r i hr _ _ => ?_, hf, fun r i hr _ _ => ?_, fun i _ => by rw [e 188 (by decide), e 189 (by decide)]; exact ⟨rfl, rfl⟩⟩
  · rw [e r (by revert hr; unfold sq9L; simp only [List.mem_cons, List.not_mem_nil, or_false]; omega)]
  · rw [e r (by revert hr; unfold opL; simp only [List.mem_cons, List.not_mem_nil, or_false]; omega)]
  · rw [e r (by revert hr; unfold rgR; simp only [List.mem_cons, List.not_mem_nil, or_false]; omega)]
  · rw [e r (by revert hr; unfold tqL; simp only [List.mem_cons, List.not_mem_nil, or_false]; omega)]
theorem OLX_pX [Inhabited gh_] {v : Int} (h53 : M 5 3 < 12000) : OLX M (pX_ M v) ∧ (M 1 8 ≠ 0 → pX_ M v 142 (M 5 3) = v ∧ pX_ M v 5 3 = M 5 3 + 1) := by
  refine ⟨OLX_XF pX_XF ?_ (fun i _ hi => ?_), fun h => ?_⟩
  · unfold pX_; split
    · exact Int.le_refl _
    · rw [up_at]; omega
  · unfold pX_; split
    · rfl
    · rw [up_ne (by decide), up_of2 (by omega)]
  · unfold pX_; rw [if_neg h]
    rw [up_ne (by decide), up_at, up_at]; exact ⟨rfl, rfl⟩
/-- an e of IF or WHEN, behind its end -/
theorem ASK_w [Inhabited gh_] (hb : b = 1) {aa a1 : Int} (h : WR b F M N M1 N1 a1 aa 0 1) (h8 : M1 1 8 = 1) (hz : N1 6 13 = 0) (h12 : M1 5 3 < 12000) : N 6 13 = 0 ∧ ASK (pX_ M1 25) N1 (N 6 61) (M 5 3) (N 6 104) := by
  obtain ⟨w1, w2, w3, w4, w5, w6, w7, w8, w9, w10⟩ := h
  obtain ⟨z, t, ht, ex⟩ := w10 hb hz
  rw [ht (by decide)] at ex
  have p := OLX_pX (M := M1) (v := 25) h12
  obtain ⟨p1, p2⟩ := p.2 (by omega)
  obtain ⟨l, e1, e2, e3, e4, e5, e6, e7⟩ := id ex
  exact ⟨z, M1 5 3, N1 6 104, Int.le_refl _, by omega, EXP_c ex (fun i x y => p.1.2.2.1 i (by omega) y) (fun _ _ _ => ⟨rfl, rfl⟩) tb_rf (Int.le_refl _), p1⟩
theorem ASK_e [Inhabited gh_] (h : ASK M N T c f) (h142 : M1 142 = M 142) (h53 : M1 5 3 = M 5 3) (hr : ∀ r : Nat, r ≠ 6 → r ∉ sq9L → N1 r = N r) (h104 : N1 6 104 = N 6 104) : ASK M1 N1 T c f := by
  obtain ⟨c1, fe, h1, h2, h3, h4⟩ := h
  exact ⟨c1, fe, by omega, by omega, EXP_c h3 (fun i _ _ => by rw [h142]) (fun i _ _ => by rw [hr 227 (by decide) (by decide), hr 228 (by decide) (by decide)]; exact ⟨rfl, rfl⟩) ⟨hr 171 (by decide) (by decide), hr 173 (by decide) (by decide), hr 182 (by decide) (by decide), hr 183 (by decide) (by decide), hr 184 (by decide) (by decide)⟩ (Int.le_refl _), by rw [h142]; exact h4⟩
theorem P_when [Inhabited gh_] (h : SS b F Mx Mq a mask 0) (hw : WHF b F F' Mx Mq a mask M9 N9 a9) : PRS b Mx Mq M9 N9 := by
  rcases bl01 (TS_E h.1) with hb | hb
  · exact fun e => by omega
  obtain ⟨Ma, Na, Mb, Nb, aa, ab, pr, M', N', v, kk, hWR, ⟨hab, xfb, b5, b142, hcase⟩, P, Sm, hv, hkk, E3, e9, n9⟩ := hw
  have s0 := SS_SCL h hb
  have hmb := (h.2.2.2 hb).2.2
  have hV := h.1.1.2.1
  have bnd := h.2.1
  have wr := hWR
  obtain ⟨w1, w2, w3, w4, w5, w6, w7, w8, w9, w10⟩ := wr
  have st := stQ_k (N := nx_ Mq) (w := 2) (mk := mask)
  rw [nx_6 (i := 62) (by decide), nx_6 (i := 61) (by decide)] at st
  have x2 : ∀ i : Int, i ≠ 3 → X2_ b (nX_ Mx) 2 1 i = Mx 1 i := fun i hi => by rw [X2_r (by decide) (by decide), nX_1 hi]
  have x53 : X2_ b (nX_ Mx) 2 5 3 = Mx 5 3 := by rw [X2_5 (by decide), nX_ne (by decide)]
  have ma53 : Ma 5 3 < 12000 := (ER_st w4).2
  have pX := OLX_pX (M := Ma) (v := 25) ma53
  have oa : OLX Mx Ma := OLX_tr OLX_nX (OLX_tr (OLX_X2 hb) (OLX_XF w2 w7.1 w8))
  have ob : OLX (pX_ Ma 25) Mb := OLX_XF xfb (by rw [b5]; exact Int.le_refl _) (fun i _ _ => by rw [b142])
  have oX : OLX Mx (nX_ Mb) := OLX_tr oa (OLX_tr pX.1 (OLX_tr ob OLX_nX))
  have y1 : ∀ i : Int, i = 18 ∨ i = 19 ∨ i = 21 ∨ i = 22 ∨ i = 23 ∨ i = 29 ∨ i = 34 → nX_ Mb 1 i = Mx 1 i := fun i hi => by
    rw [nX_1 (by omega), xfb.2.1 i (by omega) (by omega) (by omega) (by omega) (by omega), pX_1, w2.2.1 i (by omega) (by omega) (by omega) (by omega) (by omega), x2 i (by omega)]
  have b34 : Mb 1 34 = Mx 1 34 := by rw [← y1 34 (by omega), nX_1 (by decide)]
  have qa : OLQ (10 * Mx 1 18 + Mx 1 19) (10 * Mx 1 18 + 10) Mq Na := OLQ_tr (Int.le_refl _) OLQ_nx (OLQ_tr (Int.le_refl _) OLQ_st (OLQ_QG w3 (by omega) w6))
  have q0 : OLQ (10 * Mx 1 18 + Mx 1 19) (10 * Mx 1 18 + 10) Mq (up_ Na 196 (Mq 6 62) (Mq 6 104)) := OLQ_u qa (by decide) (Int.le_refl _)
  have qb : OLQ (10 * Mx 1 18 + Mx 1 19) (10 * Mx 1 18 + 10) Mq Nb := by
    rcases hcase with ⟨_, _, q⟩ | ⟨_, q⟩
    · rw [q]; exact q0
    · rw [q]; exact OLQ_u (OLQ_tr (Int.le_refl _) q0 (OLQ_tr (Int.le_refl _) OLQ_nx OLQ_nx)) (by decide) (Int.le_refl _)
  have oQ : OLQ (10 * Mx 1 18 + Mx 1 19) (10 * Mx 1 18 + 10) Mq (up_ (nx_ Nb) 197 (Mq 6 62) (Nb 6 75)) := OLQ_u (OLQ_tr (Int.le_refl _) qb OLQ_nx) (by decide) (Int.le_refl _)
  have nb6 : ∀ i : Int, i ≠ 12 → Nb 6 i = Na 6 i := fun i hi => by
    rcases hcase with ⟨_, _, q⟩ | ⟨_, q⟩
    · rw [q, up_ne (by decide)]
    · rw [q, up_ne (by decide), nx_6 hi, nx_6 hi, up_ne (by decide)]
  have nbr : ∀ r : Nat, r ≠ 6 → r ≠ 195 → r ≠ 196 → Nb r = Na r := fun r h6 h5 h7 => by
    rcases hcase with ⟨_, _, q⟩ | ⟨_, q⟩
    · rw [q, up_ne h7]
    · rw [q, up_ne h5, nx_ne h6, nx_ne h6, up_ne h7]
  have nb196 : Nb 196 (Mq 6 62) = Mq 6 104 := by
    rcases hcase with ⟨_, _, q⟩ | ⟨_, q⟩
    · rw [q, up_at]
    · rw [q, up_ne (by decide), nx_ne (by decide), nx_ne (by decide), up_at]
  have na6 : ∀ i : Int, i = 13 ∨ i = 61 ∨ i = 75 ∨ i = 76 ∨ i = 90 → stQ_ (nx_ Mq) 2 mask 6 i = Mq 6 i := fun i hi => by rw [stQ_6 (by omega), nx_6 (by omega)]
  have na7 : ∀ i : Int, i = 61 ∨ i = 75 ∨ i = 76 ∨ i = 90 → Na 6 i = Mq 6 i := fun i hi => by rw [w3.2 i (by omega) (by omega) (by omega) (by omega) (by omega) (by omega) (by omega) (by omega) (by omega) (by omega) (by omega), na6 i (by omega)]
  have n16 : ∀ i : Int, i = 61 ∨ i = 75 ∨ i = 76 ∨ i = 90 → up_ (nx_ Nb) 197 (Mq 6 62) (Nb 6 75) 6 i = Mq 6 i := fun i hi => by rw [up_ne (by decide), nx_6 (by omega), nb6 i (by omega), na7 i hi]
  have n13 : up_ (nx_ Nb) 197 (Mq 6 62) (Nb 6 75) 6 13 = Na 6 13 := by rw [up_ne (by decide), nx_6 (by decide), nb6 13 (by decide)]
  have na62 : Na 6 62 = Mq 6 62 + 1 := by rw [w3.2 62 (by decide) (by decide) (by decide) (by decide) (by decide) (by decide) (by decide) (by decide) (by decide) (by decide) (by decide), stQ_62, nx_6 (by decide)]
  have q62 : up_ (nx_ Nb) 197 (Mq 6 62) (Nb 6 75) 6 62 = Mq 6 62 + 1 := by rw [up_ne (by decide), nx_6 (by decide), nb6 62 (by decide), na62]
  have nar : ∀ r : Nat, r ∈ sq9L → Na r = stQ_ (nx_ Mq) 2 mask r := fun r hr => w3.1 r (by revert hr; unfold sq9L; simp only [List.mem_cons, List.not_mem_nil, or_false]; omega)
  have k19 : ∀ r : Nat, r = 192 ∨ r = 193 → up_ (nx_ Nb) 197 (Mq 6 62) (Nb 6 75) r (Mq 6 62) = stQ_ (nx_ Mq) 2 mask r (Mq 6 62) := fun r hr => by
    rw [up_ne (by omega), nx_ne (by omega), nbr r (by omega) (by omega) (by omega), nar r (by rcases hr with q | q <;> rw [q] <;> decide)]
  have k195 : up_ (nx_ Nb) 197 (Mq 6 62) (Nb 6 75) 195 (Mq 6 62) = pr := by
    rw [up_ne (by decide), nx_ne (by decide)]
    rcases hcase with ⟨_, ep, q⟩ | ⟨_, q⟩
    · rw [q, up_ne (by decide), nar 195 (by decide), ep]; exact st.2.2.2.1
    · rw [q, up_at]
  have n75 : Nb 6 75 = Mq 6 75 := by rw [nb6 75 (by decide), na7 75 (by omega)]
  have n76 := n16 76 (by omega)
  have P' := P
  have e76 : Nb 6 76 = up_ (nx_ Nb) 197 (Mq 6 62) (Nb 6 75) 6 76 := by rw [n76, nb6 76 (by decide), na7 76 (by omega)]
  rw [e76] at P'
  have m53 : nX_ Mb 5 3 = Mb 5 3 := by rw [nX_ne (by decide)]
  have m123 : nX_ Mb 123 = Mx 123 := oX.1.1 123 (by decide)
  have e9' : ∀ r : Nat, r ≠ 139 → r ≠ 140 → r ≠ 141 → M9 r = Xn_ M' b kk a9 r := fun r h1 h2 h3 => by rw [e9]; exact Xw_r h1 h2 h3
  have ew : M9 = up_ (up_ (up_ (Xn_ M' b kk a9) 139 (Mx 5 4) (Mx 5 3)) 140 (Mx 5 4) pr) 141 (Mx 5 4) (Mb 5 3) := by rw [e9]; unfold Xw_; rw [if_neg (by omega), if_neg (by omega)]
  refine PRS_ln hb s0 ⟨oX, oQ⟩ (y1 29 (by omega)) (y1 19 (by omega)) (y1 21 (by omega)) (y1 23 (by omega)) n76 (n16 75 (by omega)) (by have := oX.2.1.1; have := ER_st (TS_E h.1); omega) (by rw [n16 90 (by omega)]; exact h.1.2.2.2.2.2.2.1.1) (by rw [n16 61 (by omega), y1 18 (by omega)]; exact hV.2.1) (.inr ⟨by rw [b34]; have := hmb.1; omega, rfl, by rw [m123, y1 18 (by omega), b34]; exact hmb⟩) (fun e => ?_) P' Sm hv hkk E3 e9' (fun r i hi => ?_) n9 q62 (fun z1 z9 o1 q1 atp j j0 j1 => ?_) (fun z1 z9 o1 q1 e22 => ?_)
  · rw [n13] at e
    have := (w10 hb e).1
    rw [na6 13 (by omega)] at this; exact this
  · rw [ew, up_of2 (by omega), up_of2 (by omega), up_of2 (by omega)]
  · have b3 := q1.2.2.1
    have k1 : ∀ r : Nat, r ∈ sq9L → N9 r (Mq 6 62) = up_ (nx_ Nb) 197 (Mq 6 62) (Nb 6 75) r (Mq 6 62) := fun r hr => b3 r (Mq 6 62) hr (by omega) (by rw [q62]; omega)
    have k193 := (k1 193 (by decide)).trans ((k19 193 (.inr rfl)).trans st.2.1)
    unfold nsK at j1
    rw [k193, if_neg (by decide)] at j1
    rw [show j = 0 by omega, show Mx 5 4 + 0 = Mx 5 4 by omega]
    have g139 : M9 139 (Mx 5 4) = Mx 5 3 := by rw [ew, up_ne (by decide), up_ne (by decide), up_at]
    have g140 : M9 140 (Mx 5 4) = pr := by rw [ew, up_ne (by decide), up_at]
    have g141 : M9 141 (Mx 5 4) = nX_ Mb 5 3 := by rw [ew, up_at, m53]
    have g192 : N9 192 (Mq 6 62) = Mx 1 18 := by rw [k1 192 (by decide), k19 192 (.inl rfl), st.1]; exact hV.2.1
    have g196 : N9 196 (Mq 6 62) = Mq 6 104 := by rw [k1 196 (by decide), up_ne (by decide), nx_ne (by decide)]; exact nb196
    have g197 : N9 197 (Mq 6 62) = up_ (nx_ Nb) 197 (Mq 6 62) (Nb 6 75) 6 75 := (k1 197 (by decide)).trans (up_at.trans (n75.trans (n16 75 (by omega)).symm))
    unfold SRO
    rw [k193, g139, g140, g141, g192, g196, g197]
    rw [n13] at z1
    have ask := (ASK_w hb hWR (w4.2.2.2.2.2.2.1.trans hb) z1 ma53).2
    rw [na6 61 (by omega), hV.2.1, x53, show stQ_ (nx_ Mq) 2 mask 6 104 = Mq 6 104 by rw [stQ_6 (by decide), nx_6 (by decide)]] at ask
    have ask1 : ASK (nX_ Mb) (up_ (nx_ Nb) 197 (Mq 6 62) (Nb 6 75)) (Mx 1 18) (Mx 5 3) (Mq 6 104) := ASK_e ask (by rw [nX_ne (by decide), b142]) (by rw [m53, b5]) (fun r h6 hs => by rw [up_ne (fun e => hs (by rw [e]; decide)), nx_ne h6, nbr r h6 (fun e => hs (by rw [e]; decide)) (fun e => hs (by rw [e]; decide))]) (by rw [up_ne (by decide), nx_6 (by decide), nb6 104 (by decide)])
    have ask2 := ASK_c ask1 o1 q1
    have ask3 : ASK M9 N9 (Mx 1 18) (Mx 5 3) (Mq 6 104) := ASK_e ask2 (e9' 142 (by decide) (by decide) (by decide)) (by rw [e9' 5 (by decide) (by decide) (by decide)]) (fun _ _ _ => rfl) rfl
    exact ⟨fun _ => atp, fun e => absurd e (by decide), fun _ => ⟨ask3, (k1 195 (by decide)).symm ▸ k195.symm⟩, fun e => absurd e (by decide)⟩
  · have b3 := q1.2.2.1
    have k193 : N9 193 (Mq 6 62) = 2 := (b3 193 (Mq 6 62) (by decide) (by omega) (by rw [q62]; omega)).trans ((k19 193 (.inr rfl)).trans st.2.1)
    refine GTB_n (e22.trans (y1 22 (by omega))) ?_ (by rw [k193]; decide)
    rw [n9, Qn_6 (by decide) (by decide), P.2.2.1.2.2 62 (by decide), tM_6 (by decide) (by decide) (by decide)]; exact q62
end GY
end T213_gr
section T214_gr
/-! growth: INPUT -/
section GZ
variable {b F F' : Int} {M N M1 N1 M' N' M9 N9 Mx Mq : mm_} {a a' a9 mask w s mk v kk lb ub T c f i : Int}
theorem RWI_e [Inhabited gh_] (h : RWI M N T c i) (hx : ∀ r : Nat, r ∈ [133, 134, 135, 136, 137, 138] → M1 r = M r) (hq : ∀ r : Nat, r ∈ [156, 157, 171, 182, 183, 184, 200, 201, 202] → N1 r = N r) : RWI M1 N1 T c i := by
  unfold RWI UQI at *
  rw [hx 133 (by decide), hx 134 (by decide), hx 135 (by decide), hx 136 (by decide), hx 137 (by decide), hx 138 (by decide), hq 156 (by decide), hq 157 (by decide), hq 171 (by decide), hq 182 (by decide), hq 183 (by decide), hq 184 (by decide), hq 200 (by decide), hq 201 (by decide), hq 202 (by decide)]
  exact h
/-- between the ins of an input and its semicolon -/
def IPB (Mx Mq Ma Na Mb Nb : mm_) (x2 : Int) : Prop := OLX Ma Mb ∧ (∀ r : Nat, r ≠ 1 → r ≠ 5 → r ≠ 142 → Mb r = Ma r) ∧ Mb 5 4 = Ma 5 4 ∧ (∀ i : Int, i = 18 ∨ i = 19 ∨ i = 21 ∨ i = 22 ∨ i = 23 ∨ i = 29 ∨ i = 34 → Mb 1 i = Ma 1 i)
  ∧ OLQ (10 * Mx 1 18 + Mx 1 19) (10 * Mx 1 18 + 10) Mq Nb ∧ (∀ r : Nat, r ∉ [6, 196, 199, 227, 228, 229, 230, 231, 232, 233, 234] → Nb r = Na r) ∧ (∀ i : Int, i = 61 ∨ i = 62 ∨ i = 63 ∨ i = 75 ∨ i = 76 ∨ i = 90 → Nb 6 i = Na 6 i) ∧ Nb 199 (Mq 6 62) = Na 6 63 ∧ (Nb 6 13 = 0 → Na 6 13 = 0)
  ∧ (Nb 6 13 = 0 → (x2 = -1 ∧ Nb 196 (Mq 6 62) = -1) ∨ ASK Mb Nb (Mx 1 18) x2 (Nb 196 (Mq 6 62)))
theorem IPF_b [Inhabited gh_] (hb : b = 1) (h : SS b F Mx Mq a mask 0) {Ma Na Mb Nb : mm_} {aa ab x2 : Int} (G3 : SLG b 0 (nX_ Mx) (stQ_ (nx_ Mq) 0 mask) Ma Na)
    (hc : (ab = aa ∧ x2 = -1 ∧ Mb = Ma ∧ Nb = nE_ Na) ∨ (∃ Mc Nc, WR b F (nX_ Ma) (nx_ (nE_ Na)) Mc Nc (aa + 1) ab 0 1 ∧ x2 = Ma 5 3 ∧ Mb = pX_ Mc 25 ∧ Nb = up_ Nc 196 (Mq 6 62) (Na 6 104))) : IPB Mx Mq Ma Na Mb Nb x2 := by
  have hV := h.1.1.2.1
  have st := stQ_k (N := nx_ Mq) (w := 0) (mk := mask)
  rw [nx_6 (i := 62) (by decide)] at st
  have na62 : Na 6 62 = Mq 6 62 + 1 := by rw [G3.2.1.2.1 62 (by decide), stQ_62, nx_6 (by decide)]
  have qa : OLQ (10 * Mx 1 18 + Mx 1 19) (10 * Mx 1 18 + 10) Mq Na := OLQ_tr (Int.le_refl _) OLQ_nx (OLQ_tr (Int.le_refl _) OLQ_st (OLQ_SQI G3.2.1))
  have qe : OLQ (10 * Mx 1 18 + Mx 1 19) (10 * Mx 1 18 + 10) Mq (nE_ Na) := OLQ_u qa (by decide) (by omega)
  have e199 : nE_ Na 199 (Mq 6 62) = Na 6 63 := by unfold nE_; rw [na62, show Mq 6 62 + 1 - 1 = Mq 6 62 by omega, up_at]
  have e196 : Na 196 (Mq 6 62) = -1 := by rw [G3.2.1.1 196 (by decide)]; exact st.2.2.2.2.1
  have na61 : Na 6 61 = Mx 1 18 := by rw [G3.2.1.2.1 61 (by decide), stQ_6 (by decide), nx_6 (by decide)]; exact hV.2.1
  rcases hc with ⟨_, ex, em, en⟩ | ⟨Mc, Nc, hWR, ex, em, en⟩
  · rw [em, en]
    exact ⟨OLX_rf, fun _ _ _ _ => rfl, rfl, fun _ _ => rfl, qe, fun r hr => nE_r (fun e => hr (by rw [e]; decide)), fun i _ => by rw [nE_r (by decide)], e199, fun e => by rw [nE_r (by decide)] at e; exact e, fun _ => .inl ⟨ex, by rw [nE_r (by decide)]; exact e196⟩⟩
  · have wr := hWR
    obtain ⟨w1, w2, w3, w4, w5, w6, w7, w8, w9, w10⟩ := wr
    have mc53 : Mc 5 3 < 12000 := (ER_st w4).2
    have pX := OLX_pX (M := Mc) (v := 25) mc53
    have xf : XF Ma (pX_ Mc 25) := XF_tr nX_XF (XF_tr w2 pX_XF)
    have q104 : nx_ (nE_ Na) 6 104 = Na 6 104 := by rw [nx_6 (by decide), nE_r (by decide)]
    have m53 : nX_ Ma 5 3 = Ma 5 3 := by rw [nX_ne (by decide)]
    have n13 : nx_ (nE_ Na) 6 13 = Na 6 13 := by rw [nx_6 (by decide), nE_r (by decide)]
    rw [em, en]
    refine ⟨OLX_tr OLX_nX (OLX_tr (OLX_XF w2 w7.1 w8) pX.1), fun r h1 h5 h2 => xf.1 r (by simp only [List.mem_cons, List.not_mem_nil, or_false, not_or]; exact ⟨h1, h5, h2⟩), xf.2.2 4 (by decide), fun i hi => xf.2.1 i (by omega) (by omega) (by omega) (by omega) (by omega), OLQ_u (OLQ_tr (Int.le_refl _) qe (OLQ_tr (Int.le_refl _) OLQ_nx (OLQ_QG w3 (by omega) w6))) (by decide) (Int.le_refl _), fun r hr => ?_, fun i hi => ?_, ?_, fun e => ?_, fun e => ?_⟩
    · rw [up_ne (fun e => hr (by rw [e]; decide)), w3.1 r (fun e => hr (by revert e; simp only [List.mem_cons, List.not_mem_nil, or_false]; omega)), nx_ne (fun e => hr (by rw [e]; decide)), nE_r (fun e => hr (by rw [e]; decide))]
    · rw [up_ne (by decide), w3.2 i (by omega) (by omega) (by omega) (by omega) (by omega) (by omega) (by omega) (by omega) (by omega) (by omega) (by omega), nx_6 (by omega), nE_r (by decide)]
    · rw [up_ne (by decide), w3.1 199 (by decide), nx_ne (by decide)]; exact e199
    · rw [up_ne (by decide)] at e
      have := (w10 hb e).1
      rw [n13] at this; exact this
    · rw [up_ne (by decide)] at e
      right
      have ask := (ASK_w hb hWR (w4.2.2.2.2.2.2.1.trans hb) e mc53).2
      rw [show nx_ (nE_ Na) 6 61 = Mx 1 18 by rw [nx_6 (by decide), nE_r (by decide)]; exact na61, m53, q104, ← ex] at ask
      rw [up_at]
      exact ASK_e ask rfl rfl (fun r h6 hs => up_ne (fun e => hs (by rw [e]; decide))) (by rw [up_ne (by decide)])
theorem P_input [Inhabited gh_] (h : SS b F Mx Mq a mask 0) (hw : IPF b F F' Mx Mq a mask M9 N9 a9) : PRS b Mx Mq M9 N9 := by
  rcases bl01 (TS_E h.1) with hb | hb
  · exact fun e => by omega
  obtain ⟨Ma, Na, Mb, Nb, M', N', aa, ab, x2, v, kk, G3, haa, hc, P, Sm, hv, hkk, E3, e9, n9⟩ := hw
  obtain ⟨i1, i2, i3, i4, i5, i6, i7, i8, i9, i10⟩ := IPF_b hb h G3 hc
  have s0 := SS_SCL h hb
  have hmb := (h.2.2.2 hb).2.2
  have hV := h.1.1.2.1
  have bnd := h.2.1
  have st := stQ_k (N := nx_ Mq) (w := 0) (mk := mask)
  rw [nx_6 (i := 62) (by decide), nx_6 (i := 61) (by decide), nx_6 (i := 63) (by decide)] at st
  have na6 : ∀ i : Int, i = 13 ∨ i = 61 ∨ i = 63 ∨ i = 75 ∨ i = 76 ∨ i = 90 → stQ_ (nx_ Mq) 0 mask 6 i = Mq 6 i := fun i hi => by rw [stQ_6 (by omega), nx_6 (by omega)]
  have na7 : ∀ i : Int, i = 61 ∨ i = 75 ∨ i = 76 ∨ i = 90 → Na 6 i = Mq 6 i := fun i hi => by rw [G3.2.1.2.1 i (by rcases hi with q | q | q | q <;> rw [q] <;> decide), na6 i (by omega)]
  have na62 : Na 6 62 = Mq 6 62 + 1 := by rw [G3.2.1.2.1 62 (by decide), stQ_62, nx_6 (by decide)]
  have na63 : Mq 6 63 ≤ Na 6 63 := by have := G3.2.1.2.2.1; rw [na6 63 (by omega)] at this; exact this
  obtain ⟨g54, ggb, grw⟩ := G3.2.2.2 hb
  rw [na6 63 (by omega), show nX_ Mx 5 4 = Mx 5 4 by rw [nX_ne (by decide)]] at g54
  have oX : OLX Mx (nX_ Mb) := OLX_tr OLX_nX (OLX_tr (OLX_SXI G3.1) (OLX_tr i1 OLX_nX))
  have y1 : ∀ i : Int, i = 18 ∨ i = 19 ∨ i = 21 ∨ i = 23 ∨ i = 29 ∨ i = 34 → nX_ Mb 1 i = Mx 1 i := fun i hi => by
    rw [nX_1 (by omega), i4 i (by omega), G3.1.2.1 i (by rcases hi with q | q | q | q | q | q <;> rw [q] <;> decide), nX_1 (by omega)]
  have b34 : Mb 1 34 = Mx 1 34 := by rw [← y1 34 (by omega), nX_1 (by decide)]
  have oQ : OLQ (10 * Mx 1 18 + Mx 1 19) (10 * Mx 1 18 + 10) Mq (up_ (nx_ Nb) 197 (Mq 6 62) (Nb 6 75)) := OLQ_u (OLQ_tr (Int.le_refl _) i5 OLQ_nx) (by decide) (Int.le_refl _)
  have n16 : ∀ i : Int, i = 61 ∨ i = 75 ∨ i = 76 ∨ i = 90 → up_ (nx_ Nb) 197 (Mq 6 62) (Nb 6 75) 6 i = Mq 6 i := fun i hi => by rw [up_ne (by decide), nx_6 (by omega), i7 i (by omega), na7 i hi]
  have n13 : up_ (nx_ Nb) 197 (Mq 6 62) (Nb 6 75) 6 13 = Nb 6 13 := by rw [up_ne (by decide), nx_6 (by decide)]
  have n63 : up_ (nx_ Nb) 197 (Mq 6 62) (Nb 6 75) 6 63 = Na 6 63 := by rw [up_ne (by decide), nx_6 (by decide), i7 63 (by omega)]
  have q62 : up_ (nx_ Nb) 197 (Mq 6 62) (Nb 6 75) 6 62 = Mq 6 62 + 1 := by rw [up_ne (by decide), nx_6 (by decide), i7 62 (by omega), na62]
  have kr : ∀ r : Nat, r = 192 ∨ r = 193 ∨ r = 198 → up_ (nx_ Nb) 197 (Mq 6 62) (Nb 6 75) r (Mq 6 62) = stQ_ (nx_ Mq) 0 mask r (Mq 6 62) := fun r hr => by
    rw [up_ne (by omega), nx_ne (by omega), i6 r (by simp only [List.mem_cons, List.not_mem_nil, or_false]; omega), G3.2.1.1 r (by unfold qiL; simp only [List.mem_cons, List.not_mem_nil, or_false]; omega)]
  have k199 : up_ (nx_ Nb) 197 (Mq 6 62) (Nb 6 75) 199 (Mq 6 62) = Na 6 63 := by rw [up_ne (by decide), nx_ne (by decide)]; exact i8
  have n75 : Nb 6 75 = Mq 6 75 := by rw [i7 75 (by omega), na7 75 (by omega)]
  have n76 := n16 76 (by omega)
  have P' := P
  have e76 : Nb 6 76 = up_ (nx_ Nb) 197 (Mq 6 62) (Nb 6 75) 6 76 := by rw [n76, i7 76 (by omega), na7 76 (by omega)]
  rw [e76] at P'
  have m53 : nX_ Mb 5 3 = Mb 5 3 := by rw [nX_ne (by decide)]
  have m54 : nX_ Mb 5 4 = Ma 5 4 := by rw [nX_ne (by decide)]; exact i3
  have m123 : nX_ Mb 123 = Mx 123 := oX.1.1 123 (by decide)
  have e9' : ∀ r : Nat, r ≠ 139 → r ≠ 141 → M9 r = Xn_ M' b kk a9 r := fun r h1 h3 => by rw [e9]; exact xiF_r h1 h3 _ _ _
  have f9 := fun x => xiF_9 (e := x2) (c := Mb 5 3) (Mb 5 4 - Mx 5 4).toNat (Mx 5 4) (Xn_ M' b kk a9) x
  rw [← e9] at f9
  have z0 : up_ (nx_ Nb) 197 (Mq 6 62) (Nb 6 75) 6 13 = 0 → Mq 6 13 = 0 ∧ Nb 6 13 = 0 ∧ Na 6 13 = 0 := fun e => by
    rw [n13] at e
    have e2 := i9 e
    have e3 := (grw e2).1
    rw [na6 13 (by omega)] at e3
    exact ⟨e3, e, e2⟩
  refine PRS_ln hb s0 ⟨oX, oQ⟩ (y1 29 (by omega)) (y1 19 (by omega)) (y1 21 (by omega)) (y1 23 (by omega)) n76 (n16 75 (by omega)) (by have := oX.2.1.1; have := ER_st (TS_E h.1); omega) (by rw [n16 90 (by omega)]; exact h.1.2.2.2.2.2.2.1.1) (by rw [n16 61 (by omega), y1 18 (by omega)]; exact hV.2.1) (.inr ⟨by rw [b34]; have := hmb.1; omega, rfl, by rw [m123, y1 18 (by omega), b34]; exact hmb⟩) (fun e => (z0 e).1) P' Sm hv hkk E3 (fun r h1 _ h3 => e9' r h1 h3) (fun r i hi => ?_) n9 q62 (fun z1 z9 o1 q1 atp j j0 j1 => ?_) (fun z1 z9 o1 q1 e22 => ?_)
  · by_cases c1 : r = 139
    · rw [c1, (f9 i).1, if_neg (by omega)]
    · by_cases c2 : r = 141
      · rw [c2, (f9 i).2, if_neg (by omega)]
      · rw [e9' r c1 c2]
  · have b3 := q1.2.2.1
    have k1 : ∀ r : Nat, r ∈ sq9L → N9 r (Mq 6 62) = up_ (nx_ Nb) 197 (Mq 6 62) (Nb 6 75) r (Mq 6 62) := fun r hr => b3 r (Mq 6 62) hr (by omega) (by rw [q62]; omega)
    have k193 := (k1 193 (by decide)).trans ((kr 193 (.inr (.inl rfl))).trans st.2.1)
    have k198 := (k1 198 (by decide)).trans ((kr 198 (.inr (.inr rfl))).trans st.2.2.2.2.2.2.1)
    have k9 := (k1 199 (by decide)).trans k199
    unfold nsK at j1
    rw [k193, if_pos (by decide), k198, k9] at j1
    have jb : Mx 5 4 ≤ Mx 5 4 + j ∧ Mx 5 4 + j < Mx 5 4 + ((Mb 5 4 - Mx 5 4).toNat : Int) := by rw [i3]; omega
    have g139 : M9 139 (Mx 5 4 + j) = x2 := by rw [(f9 _).1, if_pos jb]
    have g141 : M9 141 (Mx 5 4 + j) = nX_ Mb 5 3 := by rw [(f9 _).2, if_pos jb, m53]
    have g192 : N9 192 (Mq 6 62) = Mx 1 18 := by rw [k1 192 (by decide), kr 192 (.inl rfl), st.1]; exact hV.2.1
    have g196 : N9 196 (Mq 6 62) = Nb 196 (Mq 6 62) := by rw [k1 196 (by decide), up_ne (by decide), nx_ne (by decide)]
    have g197 : N9 197 (Mq 6 62) = up_ (nx_ Nb) 197 (Mq 6 62) (Nb 6 75) 6 75 := (k1 197 (by decide)).trans (up_at.trans (n75.trans (n16 75 (by omega)).symm))
    obtain ⟨_, zb, za⟩ := z0 z1
    unfold SRO
    rw [k193, g139, g141, g192, g196, g197, k198]
    refine ⟨fun _ => atp, fun _ => ?_, fun e => absurd e (by decide), fun _ => ?_⟩
    · rcases i10 zb with ⟨e1, e2⟩ | ask
      · exact .inl ⟨e2, e1⟩
      · right
        have ask1 : ASK (nX_ Mb) (up_ (nx_ Nb) 197 (Mq 6 62) (Nb 6 75)) (Mx 1 18) x2 (Nb 196 (Mq 6 62)) := ASK_e ask (by rw [nX_ne (by decide)]) m53 (fun r h6 hs => by rw [up_ne (fun e => hs (by rw [e]; decide)), nx_ne h6]) (by rw [up_ne (by decide), nx_6 (by decide)])
        exact ASK_e (ASK_c ask1 o1 q1) (e9' 142 (by decide) (by decide)) (by rw [e9' 5 (by decide) (by decide)]) (fun _ _ _ => rfl) rfl
    · have r0 := (grw za).2 j j0 (by rw [na6 63 (by omega)]; exact j1)
      rw [na6 61 (by omega), hV.2.1, na6 63 (by omega), show nX_ Mx 5 4 = Mx 5 4 by rw [nX_ne (by decide)]] at r0
      have r1 : RWI (nX_ Mb) (up_ (nx_ Nb) 197 (Mq 6 62) (Nb 6 75)) (Mx 1 18) (Mx 5 4 + j) (Mq 6 63 + j) := RWI_e r0 (fun r hr => by rw [nX_ne (fun e => by rw [e] at hr; revert hr; decide), i2 r (fun e => by rw [e] at hr; revert hr; decide) (fun e => by rw [e] at hr; revert hr; decide) (fun e => by rw [e] at hr; revert hr; decide)]) (fun r hr => by rw [up_ne (fun e => by rw [e] at hr; revert hr; decide), nx_ne (fun e => by rw [e] at hr; revert hr; decide), i6 r (by revert hr; simp only [List.mem_cons, List.not_mem_nil, or_false]; omega)])
      exact RWI_e (RWI_o r1 o1 q1 (by rw [m54]; omega) (by rw [n63]; omega)) (fun r hr => e9' r (fun e => by rw [e] at hr; revert hr; decide) (fun e => by rw [e] at hr; revert hr; decide)) (fun _ _ => rfl)
  · have b3 := q1.2.2.1
    have b4 := q1.2.2.2.1
    have k1 : ∀ r : Nat, r ∈ sq9L → N9 r (Mq 6 62) = up_ (nx_ Nb) 197 (Mq 6 62) (Nb 6 75) r (Mq 6 62) := fun r hr => b3 r (Mq 6 62) hr (by omega) (by rw [q62]; omega)
    have k193 := (k1 193 (by decide)).trans ((kr 193 (.inr (.inl rfl))).trans st.2.1)
    have k198 := (k1 198 (by decide)).trans ((kr 198 (.inr (.inr rfl))).trans st.2.2.2.2.2.2.1)
    have k9 := (k1 199 (by decide)).trans k199
    have n200 : ∀ i, 0 ≤ i → i < Na 6 63 → N9 200 i = Na 200 i := fun i i0 i1 => by
      rw [(b4 i i0 (by rw [n63]; exact i1)).1, up_ne (by decide), nx_ne (by decide), i6 200 (by decide)]
    have n962 : N9 6 62 = Mq 6 62 + 1 := by rw [n9, Qn_6 (by decide) (by decide), P.2.2.1.2.2 62 (by decide), tM_6 (by decide) (by decide) (by decide)]; exact q62
    have x22 : M9 1 22 = Ma 1 22 := by rw [e22, nX_1 (by decide), i4 22 (by omega)]
    intro hg
    have h22 : nX_ Mx 1 22 = Mx 1 22 := nX_1 (by decide)
    unfold SGB at ggb
    rw [h22, na6 63 (by omega)] at ggb
    obtain ⟨u1, u2⟩ := ggb hg
    rw [x22]
    refine ⟨u1, fun s s0 s1 => ?_⟩
    rw [u2 s s0 s1]
    constructor
    · rintro (h | ⟨_, i, hi, hs⟩)
      · exact .inl h
      · exact .inr ⟨Mq 6 62, i, ⟨Int.le_refl _, by omega⟩, k193, by rw [k198, k9]; exact hi, by rw [n200 i (by omega) hi.2]; exact hs⟩
    · rintro (h | ⟨k, i, hk, h3, hi, hs⟩)
      · exact .inl h
      · rw [show k = Mq 6 62 by omega, k198, k9] at hi
        rw [n200 i (by omega) hi.2] at hs
        exact .inr ⟨rfl, i, hi, hs⟩
end GZ
end T214_gr
section T215_gr
/-! growth: SAVE -/
section HA
variable {b F F' : Int} {M' N' Mx Mq : mm_} {a mask : Int}
theorem P_save [Inhabited gh_] (h : SS b F Mx Mq a mask 0) (G : SLG b 1 (nX_ Mx) (stQ_ (nx_ Mq) 1 mask) M' N') : PRS b Mx Mq (nX_ M') (nx_ (nE_ N')) := by
  rcases bl01 (TS_E h.1) with hb | hb
  · exact fun e => by omega
  have s0 := SS_SCL h hb
  have hV := h.1.1.2.1
  have bnd := h.2.1
  have st := stQ_k (N := nx_ Mq) (w := 1) (mk := mask)
  rw [nx_6 (i := 62) (by decide), nx_6 (i := 61) (by decide), nx_6 (i := 63) (by decide)] at st
  have na6 : ∀ i : Int, i = 13 ∨ i = 61 ∨ i = 63 ∨ i = 75 ∨ i = 76 ∨ i = 90 → stQ_ (nx_ Mq) 1 mask 6 i = Mq 6 i := fun i hi => by rw [stQ_6 (by omega), nx_6 (by omega)]
  have n62 : N' 6 62 = Mq 6 62 + 1 := by rw [G.2.1.2.1 62 (by decide), stQ_62, nx_6 (by decide)]
  have n63 : Mq 6 63 ≤ N' 6 63 := by have := G.2.1.2.2.1; rw [na6 63 (by omega)] at this; exact this
  obtain ⟨g54, ggb, grw⟩ := G.2.2.2 hb
  rw [na6 63 (by omega), show nX_ Mx 5 4 = Mx 5 4 by rw [nX_ne (by decide)]] at g54
  have oX : OLX Mx (nX_ M') := OLX_tr OLX_nX (OLX_tr (OLX_SXI G.1) OLX_nX)
  have qa : OLQ (10 * Mx 1 18 + Mx 1 19) (10 * Mx 1 18 + 10) Mq N' := OLQ_tr (Int.le_refl _) OLQ_nx (OLQ_tr (Int.le_refl _) OLQ_st (OLQ_SQI G.2.1))
  have oQ : OLQ (10 * Mx 1 18 + Mx 1 19) (10 * Mx 1 18 + 10) Mq (nx_ (nE_ N')) := OLQ_tr (Int.le_refl _) (OLQ_u qa (by decide) (by omega)) OLQ_nx
  have x1 : ∀ i : Int, i = 19 ∨ i = 21 ∨ i = 23 ∨ i = 29 → nX_ M' 1 i = Mx 1 i := fun i hi => by rw [nX_1 (by omega), G.1.2.1 i (by rcases hi with q | q | q | q <;> rw [q] <;> decide), nX_1 (by omega)]
  have q6 : ∀ i : Int, i ≠ 12 → nx_ (nE_ N') 6 i = N' 6 i := fun i hi => by rw [nx_6 hi, nE_r (by decide)]
  have qr : ∀ r : Nat, r ≠ 6 → r ≠ 199 → nx_ (nE_ N') r = N' r := fun r h6 h9 => by rw [nx_ne h6, nE_r h9]
  have q75 : nx_ (nE_ N') 6 75 = Mq 6 75 := by rw [q6 75 (by decide), G.2.1.2.1 75 (by decide), na6 75 (by omega)]
  have q76 : nx_ (nE_ N') 6 76 = Mq 6 76 := by rw [q6 76 (by decide), G.2.1.2.1 76 (by decide), na6 76 (by omega)]
  have q62 : nx_ (nE_ N') 6 62 = Mq 6 62 + 1 := by rw [q6 62 (by decide), n62]
  have k199 : nx_ (nE_ N') 199 (Mq 6 62) = N' 6 63 := by
    rw [nx_ne (by decide)]; unfold nE_; rw [n62, show Mq 6 62 + 1 - 1 = Mq 6 62 by omega, up_at]
  have kr : ∀ r : Nat, r = 192 ∨ r = 193 ∨ r = 198 → nx_ (nE_ N') r (Mq 6 62) = stQ_ (nx_ Mq) 1 mask r (Mq 6 62) := fun r hr => by
    rw [qr r (by omega) (by omega), G.2.1.1 r (by unfold qiL; simp only [List.mem_cons, List.not_mem_nil, or_false]; omega)]
  have k193 : nx_ (nE_ N') 193 (Mq 6 62) = 1 := (kr 193 (by omega)).trans st.2.1
  have k198 : nx_ (nE_ N') 198 (Mq 6 62) = Mq 6 63 := (kr 198 (by omega)).trans st.2.2.2.2.2.2.1
  refine fun _ => ⟨⟨oX, oQ⟩, by rw [x1 29 (by omega), q76]; omega, fun hz => ?_⟩
  rw [q6 13 (by decide)] at hz
  obtain ⟨z1, rws⟩ := grw hz
  rw [na6 13 (by omega)] at z1
  refine ⟨z1, fun k k0 k1 j j0 j1 => ?_, fun l l0 l1 => by rw [x1 19 (by omega)] at l1; omega, fun x x0 x1' => by rw [x1 29 (by omega)] at x1'; omega, ?_, ?_⟩
  · rw [q62] at k1
    have ek : k = Mq 6 62 := by omega
    rw [ek] at j1 ⊢
    rw [xsf_c oQ _ (by omega), s0.2.2]
    unfold nsK at j1
    rw [k193, if_pos (by decide), k198, k199] at j1
    have r0 := rws j j0 (by rw [na6 63 (by omega)]; exact j1)
    rw [na6 61 (by omega), hV.2.1, na6 63 (by omega), show nX_ Mx 5 4 = Mx 5 4 by rw [nX_ne (by decide)]] at r0
    have g192 : nx_ (nE_ N') 192 (Mq 6 62) = Mx 1 18 := by rw [kr 192 (by omega), st.1]; exact hV.2.1
    unfold SRO
    rw [k193, g192, k198]
    exact ⟨fun e => absurd rfl e, fun e => absurd e (by decide), fun e => absurd e (by decide), fun _ => RWI_e r0 (fun r hr => nX_ne (fun e => by rw [e] at hr; revert hr; decide)) (fun r hr => qr r (fun e => by rw [e] at hr; revert hr; decide) (fun e => by rw [e] at hr; revert hr; decide))⟩
  · rw [q75]
    unfold SBS
    rw [x1 21 (by omega), x1 23 (by omega)]
    refine ⟨fun s _ _ => ⟨fun h => .inl h, fun h => ?_⟩, fun s _ _ => ⟨fun h => .inl h, fun h => ?_⟩⟩
    · rcases h with h | ⟨k, h, _⟩
      · exact h
      · omega
    · rcases h with h | ⟨k, h, _⟩
      · exact h
      · omega
  · intro hg
    have h22 : nX_ Mx 1 22 = Mx 1 22 := nX_1 (by decide)
    unfold SGB at ggb
    rw [h22] at ggb
    obtain ⟨u1, u2⟩ := ggb hg
    rw [nX_1 (by decide)]
    refine ⟨u1, fun s s0 s1 => ?_⟩
    rw [u2 s s0 s1]
    constructor
    · rintro (h | ⟨e, _⟩)
      · exact .inl h
      · exact absurd e (by decide)
    · rintro (h | ⟨k, i, hk, h3, hi, hs⟩)
      · exact .inl h
      · rw [show k = Mq 6 62 by omega, k193] at h3; exact absurd h3 (by decide)
end HA
end T215_gr
section T216_ln
/-! lines of states: frames -/
/-- the tables of states stay -/
def NST (Mx Mq M N : mm_) : Prop := M 59 = Mx 59 ∧ M 123 = Mx 123 ∧ N 174 = Mq 174 ∧ N 179 = Mq 179 ∧ N 186 = Mq 186
/-- labels of other types, and those behind, stay -/
def LBW (b : Int) (Mx Mq M N : mm_) : Prop := (∀ i, i ≠ Mx 1 18 → M 128 i = Mx 128 i ∧ N 175 i = Mq 175 i) ∧ (∀ i, i < 10 * Mx 1 18 + lc_ b Mx ∨ 10 * Mx 1 18 + 10 ≤ i → M 62 i = Mx 62 i ∧ N 180 i = Mq 180 i ∧ N 187 i = Mq 187 i) ∧ (b = 0 → M 5 3 = Mx 5 3 ∧ M 5 4 = Mx 5 4)
def LNF (b F F' : Int) (Mx Mq M N : mm_) : Prop := XSb Mx M ∧ QSb Mq N ∧ LKP b Mx M ∧ NST Mx Mq M N ∧ (F' ≤ F ∧ (b = 1 → F' = F)) ∧ LBW b Mx Mq M N
section LN
variable {b F F' F2 : Int} {M N M1 N1 M' N' M9 N9 Mx Mq : mm_} {a a' a9 mask mx st mk v kk t p c k : Int}
theorem NST_tr [Inhabited gh_] (h1 : NST Mx Mq M N) (h2 : NST M N M1 N1) : NST Mx Mq M1 N1 := ⟨h2.1.trans h1.1, h2.2.1.trans h1.2.1, h2.2.2.1.trans h1.2.2.1, h2.2.2.2.1.trans h1.2.2.2.1, h2.2.2.2.2.trans h1.2.2.2.2⟩
theorem NST_a [Inhabited gh_] (hx : XA Mx M) (hq : QA Mq N) : NST Mx Mq M N := ⟨hx.1 59 (by decide), hx.1 123 (by decide), hq.1 174 (by decide), hq.1 179 (by decide), hq.1 186 (by decide)⟩
theorem LBW_tr [Inhabited gh_] (hk : LKP b Mx M) (h1 : LBW b Mx Mq M N) (h2 : LBW b M N M1 N1) : LBW b Mx Mq M1 N1 := by
  have h18 := hk.1
  have hl := hk.2.1
  obtain ⟨a1, a2, a3⟩ := h1
  obtain ⟨b1, b2, b3⟩ := h2
  rw [h18] at b1 b2
  refine ⟨fun i hi => ⟨(b1 i hi).1.trans (a1 i hi).1, (b1 i hi).2.trans (a1 i hi).2⟩, fun i hi => ?_, fun hb => ⟨(b3 hb).1.trans (a3 hb).1, (b3 hb).2.trans (a3 hb).2⟩⟩
  have x := b2 i (by omega)
  have y := a2 i hi
  exact ⟨x.1.trans y.1, x.2.1.trans y.2.1, x.2.2.trans y.2.2⟩
theorem LBW_e [Inhabited gh_] (h62 : M 62 = Mx 62) (h128 : M 128 = Mx 128) (h175 : N 175 = Mq 175) (h180 : N 180 = Mq 180) (h187 : N 187 = Mq 187) (h5 : b = 0 → M 5 3 = Mx 5 3 ∧ M 5 4 = Mx 5 4) : LBW b Mx Mq M N := ⟨fun i _ => by rw [h128, h175]; exact ⟨rfl, rfl⟩, fun i _ => by rw [h62, h180, h187]; exact ⟨rfl, rfl, rfl⟩, h5⟩
theorem LNF_tr [Inhabited gh_] (h1 : LNF b F F' Mx Mq M N) (h2 : LNF b F' F2 M N M1 N1) : LNF b F F2 Mx Mq M1 N1 := ⟨XSb_tr h1.1 h2.1, QSb_tr h1.2.1 h2.2.1, LKP_tr h1.2.2.1 h2.2.2.1, NST_tr h1.2.2.2.1 h2.2.2.2.1, ⟨by have := h1.2.2.2.2.1.1; have := h2.2.2.2.2.1.1; omega, fun hb => (h2.2.2.2.2.1.2 hb).trans (h1.2.2.2.2.1.2 hb)⟩, LBW_tr h1.2.2.1 h1.2.2.2.2.2 h2.2.2.2.2.2⟩
theorem LNF_rf [Inhabited gh_] : LNF b F F Mx Mq Mx Mq := ⟨XSb_rf, QSb_rf, LKP_rf, ⟨rfl, rfl, rfl, rfl, rfl⟩, ⟨Int.le_refl _, fun _ => rfl⟩, LBW_e rfl rfl rfl rfl rfl (fun _ => ⟨rfl, rfl⟩)⟩
theorem LNF_x [Inhabited gh_] (hx : XSb Mx M) (hq : QSb Mq N) (hn : NST Mx Mq M N) (hl : N 175 = Mq 175 ∧ N 180 = Mq 180 ∧ N 187 = Mq 187) (h62 : M 62 = Mx 62) (h128 : M 128 = Mx 128) (h18 : M 1 18 = Mx 1 18) (h19 : M 1 19 = Mx 1 19) (h5 : b = 0 → M 5 3 = Mx 5 3 ∧ M 5 4 = Mx 5 4) : LNF b F F Mx Mq M N := ⟨hx, hq, (LKP_X h62 h128 h18 h19).1, hn, ⟨Int.le_refl _, fun _ => rfl⟩, LBW_e h62 h128 hl.1 hl.2.1 hl.2.2 h5⟩
theorem LNF_F [Inhabited gh_] (hx : XF Mx M) (hq : QA Mq N) (hl : N 175 = Mq 175 ∧ N 180 = Mq 180 ∧ N 187 = Mq 187) (h5 : b = 0 → M 5 3 = Mx 5 3) : LNF b F F Mx Mq M N := ⟨XA_XSb (XF_XA hx), QA_QSb hq, (LKP_F hx).1, NST_a (XF_XA hx) hq, ⟨Int.le_refl _, fun _ => rfl⟩, LBW_e (XF_70 hx (by decide) (by decide) (by decide)) (XF_70 hx (by decide) (by decide) (by decide)) hl.1 hl.2.1 hl.2.2 (fun hb => ⟨h5 hb, hx.2.2 4 (by decide)⟩)⟩
theorem hl_QF [Inhabited gh_] (h : QF Mq N) : N 175 = Mq 175 ∧ N 180 = Mq 180 ∧ N 187 = Mq 187 := ⟨h.1 175 (by decide), h.1 180 (by decide), h.1 187 (by decide)⟩
theorem hl_QG [Inhabited gh_] (h : QG Mq N) : N 175 = Mq 175 ∧ N 180 = Mq 180 ∧ N 187 = Mq 187 := ⟨h.1 175 (by decide), h.1 180 (by decide), h.1 187 (by decide)⟩
theorem LNF_t [Inhabited gh_] {me : Int} (P : PRC b F F' (sX_ M1 mx) (tM_ N1 st mk) M' N' a a' 0 0 me) : LNF b F F' M1 N1 (Xn_ M' b kk t) (Qn_ N' b kk p) := by
  have l0 : LKP b M1 (sX_ M1 mx) := (LKP_X (sX_r (by decide) (by decide) (by decide) (by decide) (by decide)) (sX_r (by decide) (by decide) (by decide) (by decide) (by decide)) (sX_1 (by decide)) (sX_1 (by decide))).1
  refine ⟨XSb_tr sX_XSb (XSb_tr (XA_XSb P.2.2.1.1) (XA_XSb (XF_XA Xn_XF))), QSb_tr tM_QSb (QSb_tr (QA_QSb P.2.2.1.2) (QA_QSb (QF_QA (QN_QF QN_Qn)))), LKP_tr l0 (LKP_tr (LKP_P P) (LKP_F Xn_XF).1), NST_tr ⟨sX_r (by decide) (by decide) (by decide) (by decide) (by decide), sX_r (by decide) (by decide) (by decide) (by decide) (by decide), tM_r (by decide) (by decide) (by decide) (by decide) (by decide) (by decide), tM_r (by decide) (by decide) (by decide) (by decide) (by decide) (by decide), tM_r (by decide) (by decide) (by decide) (by decide) (by decide) (by decide)⟩ (NST_tr (NST_a P.2.2.1.1 P.2.2.1.2) (NST_a (XF_XA Xn_XF) (QF_QA (QN_QF QN_Qn)))), P.1, ?_⟩
  have d3 := P.2.2.2.1.2.2.2.1
  have d4 := P.2.2.2.1.2.2.2.2
  have e18 : sX_ M1 mx 1 18 = M1 1 18 := sX_1 (by decide)
  have lce : lc_ b (sX_ M1 mx) = lc_ b M1 := (LKP_X (b := b) (M1 := sX_ M1 mx) (Mx := M1) (sX_r (by decide) (by decide) (by decide) (by decide) (by decide)) (sX_r (by decide) (by decide) (by decide) (by decide) (by decide)) (sX_1 (by decide)) (sX_1 (by decide))).2
  rw [e18] at d3 d4
  rw [lce] at d4
  refine ⟨fun i hi => ?_, fun i hi => ?_, fun hb => ?_⟩
  rotate_left 2
  · rw [Xn_r (by decide), P.2.2.2.2.1.2.2.2.1.2.2 hb, P.2.2.1.1.2.2 4 (by decide), sX_r (by decide) (by decide) (by decide) (by decide) (by decide)]
    exact ⟨rfl, rfl⟩
  · have := d3 i hi
    rw [Xn_r (by decide), Qn_r (by decide), this.1, this.2, sX_r (by decide) (by decide) (by decide) (by decide) (by decide), tM_r (by decide) (by decide) (by decide) (by decide) (by decide) (by decide)]
    exact ⟨rfl, rfl⟩
  · have := d4 i hi
    rw [Xn_r (by decide), Qn_r (by decide), Qn_r (by decide), this.1.1, this.2.1, this.2.2.1, sX_r (by decide) (by decide) (by decide) (by decide) (by decide), tM_r (by decide) (by decide) (by decide) (by decide) (by decide) (by decide), tM_r (by decide) (by decide) (by decide) (by decide) (by decide) (by decide)]
    exact ⟨rfl, rfl, rfl⟩
theorem LNF_y [Inhabited gh_] (h1 : ∀ r : Nat, r ≠ 139 → r ≠ 140 → r ≠ 141 → M9 r = M r) : LNF b F F M N M9 N := by
  have e1 := h1 1 (by decide) (by decide) (by decide)
  exact LNF_x ⟨fun r hr => h1 r (fun e => hr (by rw [e]; decide)) (fun e => hr (by rw [e]; decide)) (fun e => hr (by rw [e]; decide)), fun i _ => by rw [e1], fun i _ _ => by rw [h1 5 (by decide) (by decide) (by decide)]⟩ QSb_rf ⟨h1 59 (by decide) (by decide) (by decide), h1 123 (by decide) (by decide) (by decide), rfl, rfl, rfl⟩ ⟨rfl, rfl, rfl⟩ (h1 62 (by decide) (by decide) (by decide)) (h1 128 (by decide) (by decide) (by decide)) (by rw [e1]) (by rw [e1]) (fun _ => by rw [h1 5 (by decide) (by decide) (by decide)]; exact ⟨rfl, rfl⟩)
theorem QSb_u [Inhabited gh_] {r : Nat} {i v : Int} (hr : r ∈ qbL) (h6 : r ≠ 6) : QSb N (up_ N r i v) := ⟨fun r' h => up_ne (fun e => h (by rw [e]; exact hr)), fun j _ => by rw [up_ne (fun e => h6 e.symm)]⟩
theorem LF_none [Inhabited gh_] (P : PRC b F F' (sX_ (X2_ b (nX_ (nX_ Mx)) 3) (Mx 1 34)) (tM_ (stQ_ (nx_ (nx_ Mq)) 3 mask) 0 mask) M' N' (a + 1 + 1) a' 0 0 (Mq 6 76)) : LNF b F F' Mx Mq (X9_ b (Xn_ M' b kk a') (Mx 5 4) c) (Qn_ N' b kk p) := by
  have l1 : LNF b F F Mx Mq (X2_ b (nX_ (nX_ Mx)) 3) (stQ_ (nx_ (nx_ Mq)) 3 mask) := LNF_tr (LNF_F (XF_tr nX_XF nX_XF) (QA_tr (QF_QA nx_QF) (QF_QA nx_QF)) (hl_QF (QF_tr nx_QF nx_QF)) (fun _ => by rw [nX_ne (by decide), nX_ne (by decide)])) (LNF_x X2_XSb stQ_QSb ⟨X2_r (by decide) (by decide), X2_r (by decide) (by decide), stQ_r (by decide) (by decide), stQ_r (by decide) (by decide), stQ_r (by decide) (by decide)⟩ ⟨stQ_r (by decide) (by decide), stQ_r (by decide) (by decide), stQ_r (by decide) (by decide)⟩ (X2_r (by decide) (by decide)) (X2_r (by decide) (by decide)) (by rw [X2_r (by decide) (by decide)]) (by rw [X2_r (by decide) (by decide)]) (fun hb => by unfold X2_; rw [if_pos hb]; exact ⟨rfl, rfl⟩))
  exact LNF_tr l1 (LNF_tr (LNF_t (kk := kk) (t := a') (p := p) P) (LNF_y fun r _ _ h => X9_r h))
theorem LF_when [Inhabited gh_] (hw : WHF b F F' Mx Mq a mask M9 N9 a9) : LNF b F F' Mx Mq M9 N9 := by
  obtain ⟨Ma, Na, Mb, Nb, aa, ab, pr, M', N', v, kk, hWR, ⟨hab, xfb, b5, b142, hcase⟩, P, Sm, hv, hkk, E3, e9, n9⟩ := hw
  obtain ⟨w1, w2, w3, w4, w5, w6, w7, w8, w9, w10⟩ := hWR
  have l1 : LNF b F F Mx Mq (X2_ b (nX_ Mx) 2) (stQ_ (nx_ Mq) 2 mask) := LNF_tr (LNF_F nX_XF (QF_QA nx_QF) (hl_QF nx_QF) (fun _ => by rw [nX_ne (by decide)])) (LNF_x X2_XSb stQ_QSb ⟨X2_r (by decide) (by decide), X2_r (by decide) (by decide), stQ_r (by decide) (by decide), stQ_r (by decide) (by decide), stQ_r (by decide) (by decide)⟩ ⟨stQ_r (by decide) (by decide), stQ_r (by decide) (by decide), stQ_r (by decide) (by decide)⟩ (X2_r (by decide) (by decide)) (X2_r (by decide) (by decide)) (by rw [X2_r (by decide) (by decide)]) (by rw [X2_r (by decide) (by decide)]) (fun hb => by unfold X2_; rw [if_pos hb]; exact ⟨rfl, rfl⟩))
  have q : QSb Na Nb := by
    rcases hcase with ⟨_, _, q⟩ | ⟨_, q⟩
    · rw [q]; exact QSb_u (by decide) (by decide)
    · rw [q]; exact QSb_tr (QSb_u (by decide) (by decide)) (QSb_tr (QA_QSb (QA_tr (QF_QA nx_QF) (QF_QA nx_QF))) (QSb_u (by decide) (by decide)))
  have qn : ∀ r : Nat, r ∉ [6, 195, 196, 197] → up_ (nx_ Nb) 197 (Mq 6 62) (Nb 6 75) r = Na r := fun r hr => by
    rw [up_ne (fun e => hr (by rw [e]; decide)), nx_ne (fun e => hr (by rw [e]; decide))]
    rcases hcase with ⟨_, _, q⟩ | ⟨_, q⟩
    · rw [q, up_ne (fun e => hr (by rw [e]; decide))]
    · rw [q, up_ne (fun e => hr (by rw [e]; decide)), nx_ne (fun e => hr (by rw [e]; decide)), nx_ne (fun e => hr (by rw [e]; decide)), up_ne (fun e => hr (by rw [e]; decide))]
  have xb : XF (X2_ b (nX_ Mx) 2) (nX_ Mb) := XF_tr w2 (XF_tr pX_XF (XF_tr xfb nX_XF))
  have l2 : LNF b F F (X2_ b (nX_ Mx) 2) (stQ_ (nx_ Mq) 2 mask) (nX_ Mb) (up_ (nx_ Nb) 197 (Mq 6 62) (Nb 6 75)) := ⟨XA_XSb (XF_XA xb), QSb_tr (QA_QSb (QG_QA w3)) (QSb_tr q (QSb_tr (QA_QSb (QF_QA nx_QF)) (QSb_u (by decide) (by decide)))), (LKP_F xb).1, NST_tr (NST_a (XF_XA xb) (QG_QA w3)) ⟨rfl, rfl, qn 174 (by decide), qn 179 (by decide), qn 186 (by decide)⟩, ⟨Int.le_refl _, fun _ => rfl⟩, LBW_e (XF_70 xb (by decide) (by decide) (by decide)) (XF_70 xb (by decide) (by decide) (by decide)) ((qn 175 (by decide)).trans (hl_QG w3).1) ((qn 180 (by decide)).trans (hl_QG w3).2.1) ((qn 187 (by decide)).trans (hl_QG w3).2.2) (fun hb => ⟨by rw [nX_ne (by decide), b5, show pX_ Ma 25 = Ma by unfold pX_; rw [if_pos (w4.2.2.2.2.2.2.1.trans hb)]]; exact w7.2.2 hb, xb.2.2 4 (by decide)⟩)⟩
  rw [e9, n9]
  exact LNF_tr l1 (LNF_tr l2 (LNF_tr (LNF_t (kk := kk) (t := a9) (p := M' 71 a9) P) (LNF_y fun r h1 h2 h3 => Xw_r h1 h2 h3)))
theorem LNF_G [Inhabited gh_] {w : Int} (h : SLG b w M N M1 N1) : LNF b F F M N M1 N1 := LNF_x (SLG_XSb h) (SLG_QSb h) ⟨h.1.1 59 (by decide), h.1.1 123 (by decide), h.2.1.1 174 (by decide), h.2.1.1 179 (by decide), h.2.1.1 186 (by decide)⟩ ⟨h.2.1.1 175 (by decide), h.2.1.1 180 (by decide), h.2.1.1 187 (by decide)⟩ (h.1.1 62 (by decide)) (h.1.1 128 (by decide)) (h.1.2.1 18 (by decide)) (h.1.2.1 19 (by decide)) (fun hb => ⟨h.1.2.2.1 3 (by decide), (h.2.2.1 hb).1⟩)
theorem LF_input [Inhabited gh_] (hw : IPF b F F' Mx Mq a mask M9 N9 a9) : LNF b F F' Mx Mq M9 N9 := by
  obtain ⟨Ma, Na, Mb, Nb, M', N', aa, ab, x2, v, kk, G3, haa, hc, P, Sm, hv, hkk, E3, e9, n9⟩ := hw
  have l1 : LNF b F F Mx Mq (nX_ Mx) (stQ_ (nx_ Mq) 0 mask) := LNF_tr (LNF_F nX_XF (QF_QA nx_QF) (hl_QF nx_QF) (fun _ => by rw [nX_ne (by decide)])) (LNF_x XSb_rf stQ_QSb ⟨rfl, rfl, stQ_r (by decide) (by decide), stQ_r (by decide) (by decide), stQ_r (by decide) (by decide)⟩ ⟨stQ_r (by decide) (by decide), stQ_r (by decide) (by decide), stQ_r (by decide) (by decide)⟩ rfl rfl rfl rfl (fun _ => ⟨rfl, rfl⟩))
  have l3 : LNF b F F Ma Na (nX_ Mb) (up_ (nx_ Nb) 197 (Mq 6 62) (Nb 6 75)) := by
    have l4 : LNF b F F Ma Na Mb Nb := by
      rcases hc with ⟨_, ex, em, en⟩ | ⟨Mc, Nc, hWR, ex, em, en⟩
      · rw [em, en]; exact LNF_x XSb_rf nE_QSb ⟨rfl, rfl, nE_r (by decide), nE_r (by decide), nE_r (by decide)⟩ ⟨nE_r (by decide), nE_r (by decide), nE_r (by decide)⟩ rfl rfl rfl rfl (fun _ => ⟨rfl, rfl⟩)
      · obtain ⟨w1, w2, w3, w4, w5, w6, w7, _⟩ := hWR
        rw [em, en]
        have xf : XF Ma (pX_ Mc 25) := XF_tr nX_XF (XF_tr w2 pX_XF)
        exact ⟨XA_XSb (XF_XA xf), QSb_tr nE_QSb (QSb_tr (QA_QSb (QF_QA nx_QF)) (QSb_tr (QA_QSb (QG_QA w3)) (QSb_u (by decide) (by decide)))), (LKP_F xf).1, NST_tr (NST_tr ⟨rfl, rfl, nE_r (by decide), nE_r (by decide), nE_r (by decide)⟩ (NST_tr (NST_a XA_rf (QF_QA nx_QF)) (NST_a (XF_XA xf) (QG_QA w3)))) ⟨rfl, rfl, up_ne (by decide), up_ne (by decide), up_ne (by decide)⟩, ⟨Int.le_refl _, fun _ => rfl⟩, LBW_e (XF_70 xf (by decide) (by decide) (by decide)) (XF_70 xf (by decide) (by decide) (by decide)) (by rw [up_ne (by decide), (hl_QG w3).1, nx_ne (by decide), nE_r (by decide)]) (by rw [up_ne (by decide), (hl_QG w3).2.1, nx_ne (by decide), nE_r (by decide)]) (by rw [up_ne (by decide), (hl_QG w3).2.2, nx_ne (by decide), nE_r (by decide)]) (fun hb => ⟨by rw [show pX_ Mc 25 = Mc by unfold pX_; rw [if_pos (w4.2.2.2.2.2.2.1.trans hb)], w7.2.2 hb, nX_ne (by decide)], xf.2.2 4 (by decide)⟩)⟩
    exact LNF_tr l4 (LNF_tr (LNF_F nX_XF (QF_QA nx_QF) (hl_QF nx_QF) (fun _ => by rw [nX_ne (by decide)])) (LNF_x XSb_rf (QSb_u (by decide) (by decide)) ⟨rfl, rfl, up_ne (by decide), up_ne (by decide), up_ne (by decide)⟩ ⟨up_ne (by decide), up_ne (by decide), up_ne (by decide)⟩ rfl rfl rfl rfl (fun _ => ⟨rfl, rfl⟩)))
  rw [e9, n9]
  exact LNF_tr l1 (LNF_tr (LNF_G G3) (LNF_tr l3 (LNF_tr (LNF_t (kk := kk) (t := a9) (p := M' 71 a9) P) (LNF_y fun r h1 h2 h3 => xiF_r h1 h3 _ _ _))))
theorem LF_save [Inhabited gh_] (G : SLG b 1 (nX_ Mx) (stQ_ (nx_ Mq) 1 mask) M' N') : LNF b F F Mx Mq (nX_ M') (nx_ (nE_ N')) := by
  have l1 : LNF b F F Mx Mq (nX_ Mx) (stQ_ (nx_ Mq) 1 mask) := LNF_tr (LNF_F nX_XF (QF_QA nx_QF) (hl_QF nx_QF) (fun _ => by rw [nX_ne (by decide)])) (LNF_x XSb_rf stQ_QSb ⟨rfl, rfl, stQ_r (by decide) (by decide), stQ_r (by decide) (by decide), stQ_r (by decide) (by decide)⟩ ⟨stQ_r (by decide) (by decide), stQ_r (by decide) (by decide), stQ_r (by decide) (by decide)⟩ rfl rfl rfl rfl (fun _ => ⟨rfl, rfl⟩))
  exact LNF_tr l1 (LNF_tr (LNF_G G) (LNF_tr (LNF_x XSb_rf nE_QSb ⟨rfl, rfl, nE_r (by decide), nE_r (by decide), nE_r (by decide)⟩ ⟨nE_r (by decide), nE_r (by decide), nE_r (by decide)⟩ rfl rfl rfl rfl (fun _ => ⟨rfl, rfl⟩)) (LNF_F nX_XF (QF_QA nx_QF) (hl_QF nx_QF) (fun _ => by rw [nX_ne (by decide)]))))
end LN
end T216_ln
section T217_ln
/-! lines of states: the loop (X 167 V 172 | Q 304 V 70) -/
def lnT (κ ν : Int → Int) (lm : Int → Int → Bool) (s : sj_) : Option (sj_ ⊕ sj_) :=
  if κ s.1 = 7 then (ipS κ lm s).bind fun r => some (.inl r) else if κ s.1 = 8 then (svS κ s.1).bind fun a => some (.inl (a, s.2)) else if κ s.1 = 9 then (whS κ ν lm s).bind fun r => some (.inl r) else if κ s.1 = 10 then (noS κ lm s).bind fun r => some (.inl r) else some (.inr s)
def LNS (κ ν : Int → Int) (lm : Int → Int → Bool) (s : sj_) : Option sj_ := LQ (lnT κ ν lm) s
section LSz
variable {κ ν : Int → Int} {lm : Int → Int → Bool} {a j : Int} {s r : sj_}
theorem bind_s [Inhabited gh_] {α β : Type} {X : Option α} {f : α → Option β} {r : β} (h : X.bind f = some r) : ∃ x, X = some x ∧ f x = some r := by
  cases X with
  | none => cases h
  | some x => exact ⟨x, rfl, h⟩
theorem pS_s [Inhabited gh_] (h0 : 0 ≤ a) (h1 : a ≤ 1200) (h : ((tS κ 259 a).bind fun a4 => PTj κ lm 12 (a4, j)) = some r) : a + 1 ≤ r.1 ∧ r.1 ≤ 1200 := by
  obtain ⟨x, e1, e2⟩ := bind_s h
  have t := tS_s e1
  have := (jw_PTj 12).1 (x, j) r (show (0 : Int) ≤ x by omega) (show x ≤ 1200 by omega) e2
  have : x ≤ r.1 ∧ r.1 ≤ 1200 := this
  omega
theorem noS_s [Inhabited gh_] (h0 : 0 ≤ s.1) (h1 : s.1 ≤ 1200) (h : noS κ lm s = some r) : s.1 + 1 ≤ r.1 ∧ r.1 ≤ 1200 := by
  unfold noS at h
  obtain ⟨x, e1, e2⟩ := bind_s h
  have g := gS_s e1
  have := pS_s (by omega) (by omega) e2
  omega
theorem ES_s [Inhabited gh_] {o a r : Int} (h0 : 0 ≤ a) (h1 : a ≤ 1200) (h : ES κ 0 o a = some r) : a + 1 ≤ r ∧ r ≤ 1200 := inc_e (κ := κ) a r h0 h1 h
theorem prS_s [Inhabited gh_] {r : Int} (h0 : 0 ≤ a) (h1 : a ≤ 1200) (h : prS κ ν a = some r) : a ≤ r ∧ r ≤ 1200 := by
  unfold prS at h
  split at h
  · obtain ⟨x, e1, e2⟩ := bind_s h
    have g := gS_s e1
    unfold cnS at e2
    split at e2
    · have := gS_s e2; omega
    · cases e2
  · injection h with h; omega
theorem whS_s [Inhabited gh_] (h0 : 0 ≤ s.1) (h1 : s.1 ≤ 1200) (h : whS κ ν lm s = some r) : s.1 + 1 ≤ r.1 ∧ r.1 ≤ 1200 := by
  unfold whS at h
  obtain ⟨x, e1, h⟩ := bind_s h
  have g := gS_s e1
  obtain ⟨y, e2, h⟩ := bind_s h
  have g2 := ES_s (by omega) (by omega) e2
  obtain ⟨z, e3, h⟩ := bind_s h
  have g3 := prS_s (by omega) (by omega) e3
  have := pS_s (by omega) (by omega) h
  omega
theorem NL_s [Inhabited gh_] : ∀ {a r : Int}, 0 ≤ a → a ≤ 1200 → NL κ a = some r → a + 1 ≤ r ∧ r ≤ 1200 := fun {a r} h0 h1 h => by
  have := lpS_r (step := nlT κ) (fun s => s) (fun s s' => nlT_l s s') (fun s a h0 h1 h => by
    unfold nlT at h
    obtain ⟨x, e1, h⟩ := bind_s h
    have t := tS_s e1
    split at h
    · obtain ⟨y, e2, h⟩ := bind_s h
      injection h with h; cases h
    · injection h with h; injection h with h; omega) 1300 a r h0 h1 h
  have e := NL_e (κ := κ) h0 h1
  rw [h] at e
  obtain ⟨x, e1, e2⟩ := bind_s e.symm
  have t := tS_s e1
  split at e2
  · obtain ⟨y, e3, e4⟩ := bind_s e2
    have g := gS_s e3
    have := lpS_r (step := nlT κ) (fun s => s) (fun s s' => nlT_l s s') (fun s a h0 h1 h => by
      unfold nlT at h
      obtain ⟨x, e1, h⟩ := bind_s h
      have t := tS_s e1
      split at h
      · obtain ⟨y, e2, h⟩ := bind_s h
        injection h with h; cases h
      · injection h with h; injection h with h; omega) 1300 y r (by omega) (by omega) e4
    omega
  · injection e2 with e2; omega
theorem svS_s [Inhabited gh_] {r : Int} (h0 : 0 ≤ a) (h1 : a ≤ 1200) (h : svS κ a = some r) : a + 1 ≤ r ∧ r ≤ 1200 := by
  unfold svS at h
  obtain ⟨x, e1, h⟩ := bind_s h
  have g := gS_s e1
  obtain ⟨y, e2, h⟩ := bind_s h
  have t := tS_s h
  split at e2
  · have := gS_s e2; omega
  · have := NL_s (by omega) (by omega) e2; omega
theorem IL_s [Inhabited gh_] {r : Int} (h0 : 0 ≤ a) (h1 : a ≤ 1200) (h : IL κ a = some r) : a ≤ r ∧ r ≤ 1200 := lpS_r (step := ilT κ) (fun s => s) (fun s s' => ilT_l s s') (fun s a h0 h1 h => by
  unfold ilT at h
  obtain ⟨x, e1, h⟩ := bind_s h
  have t := inS_s h0 h1 e1
  split at h
  · obtain ⟨y, e2, h⟩ := bind_s h
    injection h with h; cases h
  · injection h with h; injection h with h; omega) 1300 a r h0 h1 h
theorem ipS_s [Inhabited gh_] (h0 : 0 ≤ s.1) (h1 : s.1 ≤ 1200) (h : ipS κ lm s = some r) : s.1 + 1 ≤ r.1 ∧ r.1 ≤ 1200 := by
  unfold ipS at h
  obtain ⟨x, e1, h⟩ := bind_s h
  have g := gS_s e1
  obtain ⟨y, e2, h⟩ := bind_s h
  have g2 := IL_s (by omega) (by omega) e2
  obtain ⟨z, e3, h⟩ := bind_s h
  have g3 : y ≤ z ∧ z ≤ 1200 := by
    unfold ifS at e3
    split at e3
    · obtain ⟨u, e4, e5⟩ := bind_s e3
      have := gS_s e4
      have := ES_s (by omega) (by omega) e5; omega
    · injection e3 with e3; omega
  have := pS_s (by omega) (by omega) h
  omega
theorem lnT_l [Inhabited gh_] (s s' : sj_) (h0 : 0 ≤ s.1) (h1 : s.1 ≤ 1200) (h : lnT κ ν lm s = some (.inl s')) : s.1 + 1 ≤ s'.1 ∧ s'.1 ≤ 1200 := by
  unfold lnT at h
  split at h
  · obtain ⟨x, e, h⟩ := bind_s h
    injection h with h; injection h with h; rw [← h]; exact ipS_s h0 h1 e
  · split at h
    · obtain ⟨x, e, h⟩ := bind_s h
      injection h with h; injection h with h; rw [← h]; exact svS_s h0 h1 e
    · split at h
      · obtain ⟨x, e, h⟩ := bind_s h
        injection h with h; injection h with h; rw [← h]; exact whS_s h0 h1 e
      · split at h
        · obtain ⟨x, e, h⟩ := bind_s h
          injection h with h; injection h with h; rw [← h]; exact noS_s h0 h1 e
        · injection h with h; cases h
theorem LNS_u [Inhabited gh_] (h0 : 0 ≤ a) (h1 : a ≤ 1200) : LNS κ ν lm (a, j) = (lnT κ ν lm (a, j)).bind (lk9 (LNS κ ν lm)) := LQ_u (step := lnT κ ν lm) (fun s => s.1) (fun s s' => lnT_l s s') (s := (a, j)) h0 h1
theorem LNS_y [Inhabited gh_] {L : sj_ → Option sj_} {X : Option sj_} (hX : lnT κ ν lm (a, j) = X.bind fun r => some (.inl r)) : (lnT κ ν lm (a, j)).bind (lk9 L) = X.bind L := by
  rw [hX]
  cases X with
  | none => rfl
  | some x => rfl
theorem LNS_7 [Inhabited gh_] (h0 : 0 ≤ a) (h1 : a ≤ 1200) (hk : κ a = 7) : LNS κ ν lm (a, j) = (ipS κ lm (a, j)).bind (LNS κ ν lm) := (LNS_u h0 h1).trans (LNS_y (by unfold lnT; rw [if_pos hk]))
theorem LNS_8 [Inhabited gh_] (h0 : 0 ≤ a) (h1 : a ≤ 1200) (hk : κ a = 8) : LNS κ ν lm (a, j) = ((svS κ a).bind fun x => some (x, j)).bind (LNS κ ν lm) := (LNS_u h0 h1).trans (LNS_y (by
  unfold lnT; rw [if_neg (by show ¬ κ a = 7; omega), if_pos hk]
  cases svS κ a with
  | none => rfl
  | some x => rfl))
theorem LNS_9 [Inhabited gh_] (h0 : 0 ≤ a) (h1 : a ≤ 1200) (hk : κ a = 9) : LNS κ ν lm (a, j) = (whS κ ν lm (a, j)).bind (LNS κ ν lm) := (LNS_u h0 h1).trans (LNS_y (by unfold lnT; rw [if_neg (by show ¬ κ a = 7; omega), if_neg (by show ¬ κ a = 8; omega), if_pos hk]))
theorem LNS_10 [Inhabited gh_] (h0 : 0 ≤ a) (h1 : a ≤ 1200) (hk : κ a = 10) : LNS κ ν lm (a, j) = (noS κ lm (a, j)).bind (LNS κ ν lm) := (LNS_u h0 h1).trans (LNS_y (by unfold lnT; rw [if_neg (by show ¬ κ a = 7; omega), if_neg (by show ¬ κ a = 8; omega), if_neg (by show ¬ κ a = 9; omega), if_pos hk]))
theorem LNS_0 [Inhabited gh_] (h0 : 0 ≤ a) (h1 : a ≤ 1200) (hk : κ a < 7 ∨ 10 < κ a) : LNS κ ν lm (a, j) = some (a, j) := by
  have e : lnT κ ν lm (a, j) = some (.inr (a, j)) := by unfold lnT; rw [if_neg (by show ¬ κ a = 7; omega), if_neg (by show ¬ κ a = 8; omega), if_neg (by show ¬ κ a = 9; omega), if_neg (by show ¬ κ a = 10; omega)]
  rw [LNS_u h0 h1, e]; rfl
end LSz
end T217_ln
section T218_ln
/-! lines of states: the loop, walked -/
def q70 (dq : Nat) (mask x2 : Int) (N : mm_) (G : mm_ → Prop) (Qt : qt_) : Prop := ∀ V : vv_, Cl_ wd0 (Tr_ wd0 pg0 (dq + 17)) V (rv_ G) Qt m_304 → Wk_ V → V 70 [rr 6, ii mask, ii x2, none] [] N
section LT
variable {dq : Nat} {b : Int} {mask : Int} {Kv G : mm_ → Prop} {Qt Qtq : qt_} {V : vv_} {N : mm_}
theorem q70_s [Inhabited gh_] {V' : vv_} {x2 : Int} (hV : Cl_ wd0 (Tr_ wd0 pg0 (dq + 17)) V' (rv_ G) Qtq m_304) (hW : Wk_ V') (hs : sp_ N) (h : G N) : V' 70 [rr 6, ii mask, ii x2, none] [] N := by
  refine b_304_70 (Tr_mono _) hV hW _ _ _ ?_
  by_cases c : x2 = 0
  · rw [if_pos c]; exact rv_i h
  · rw [if_neg c]; exact q_227s hs (by rw [if_neg (by decide)]; exact rv_i h)
theorem Tr_ri [Inhabited gh_] {d m : Nat} {as : List pv_} {M : mm_} {K K' : Int → mm_ → Prop} (h : Tr_ wd0 pg0 d m as M (ri_ K) Qt) (hk : ∀ v M', K v M' → K' v M') : Tr_ wd0 pg0 d m as M (ri_ K') Qt := Tr_mono _ _ _ _ _ _ _ _ (fun vs M' ⟨x, e, k⟩ => ⟨x, e, hk x M' k⟩) (fun _ _ h => h) h
theorem l_172 [Inhabited gh_] (hV : Cl_ wd0 (Tr_ wd0 pg0 129) V (rv_ Kv) Qt m_167) (hW : Wk_ V) :
    ∀ (n : Nat) (a F : Int) (Mx Mq : mm_), 1201 - a ≤ (n : Int) → SS b F Mx Mq a mask 0 → (b = 1 → LNS (Mx 70) (Mx 73) (LMT Mx) (a, lc_ b Mx) ≠ none) →
    (∀ F' M' N' a', SS b F' M' N' a' mask 0 → a ≤ a' → PRS b Mx Mq M' N' → LNF b F F' Mx Mq M' N' → (M' 70 a' < 7 ∨ 10 < M' 70 a') → (∀ lm, LOK b lm Mx M' → LNS (Mx 70) (Mx 73) lm (a, lc_ b Mx) = some (a', lc_ b M')) → (∀ (G : mm_ → Prop) (Qtq : qt_), G N' → q70 dq mask 1 Mq G Qtq) → Kv M') →
    (b = 0 → ∀ Mx', XSb Mx Mx' → (∀ (G : mm_ → Prop) (Qtq : qt_), (∀ M', SQb Mx' Mq M' → G M') → q70 dq mask 1 Mq G Qtq) → Qt 8 Mx') →
    V 172 [rr 1, ii 1, none, none] [] Mx
  | 0, a, F, Mx, Mq, hn, h, _, _, _ => by have := ER_a (TS_E h.1); omega
  | n + 1, a, F, Mx, Mq, hn, h, hS, hK, hQ => by
    have hE := TS_E h.1
    have hT := h.1.1.1
    have ha := ER_a hE
    have go := ER_goq hE
    -- one line more
    have next : ∀ (F' : Int) (M9 N9 : mm_) (a9 : Int) (S : (Int → Int → Bool) → Option sj_), SS b F' M9 N9 a9 mask 0 → a + 1 ≤ a9 → PRS b Mx Mq M9 N9 → LNF b F F' Mx Mq M9 N9 → (∀ lm, LNS (Mx 70) (Mx 73) lm (a, lc_ b Mx) = (S lm).bind (LNS (Mx 70) (Mx 73) lm)) → (∀ lm, LOK b lm Mx M9 → S lm = some (a9, lc_ b M9)) → (∀ (G : mm_ → Prop) (Qtq : qt_), q70 dq mask 1 N9 G Qtq → q70 dq mask 1 Mq G Qtq) → V 172 [rr 1, ii 1, none, none] [] M9 := fun F' M9 N9 a9 S S9 ha9 P9 L9 eS sy q9 => by
      have x70 : M9 70 = Mx 70 := L9.1.1 70 (by decide)
      have x73 : M9 73 = Mx 73 := L9.1.1 73 (by decide)
      refine l_172 hV hW n a9 F' M9 N9 (by omega) S9 (fun hb => ?_) (fun F2 M' N' a' SS' ha' P' L' h7 sy' hq' => ?_) (fun hb Mx' hx hq => ?_)
      · have h9 := hS hb
        have ok : LOK b (LMT Mx) Mx M9 := ⟨fun hb0 => by omega, fun _ => rfl⟩
        rw [eS, sy _ ok, Option.bind_some] at h9
        rw [x70, x73, L9.2.2.1.2.2.2 hb]; exact h9
      · refine hK F2 M' N' a' SS' (by omega) (PRS_tr (fun hb => SS_SCL h hb) (fun hb => SS_SCL S9 hb) P9 P') (LNF_tr L9 L') h7 (fun lm hlm => ?_) (fun G Qtq hg => q9 G Qtq (hq' G Qtq hg))
        have l := LOK_s L9.2.2.1 L'.2.2.1 hlm
        have e := sy' lm l.2
        rw [x70, x73] at e
        rw [eS, sy lm l.1, Option.bind_some]; exact e
      · exact hQ hb Mx' (XSb_tr L9.1 hx) (fun G Qtq hg => q9 G Qtq (hq G Qtq fun M' p => hg _ ⟨p.1, p.2.1, p.2.2.1, p.2.2.2.1, QSb_tr L9.2.1 p.2.2.2.2⟩))
    have toQ : ∀ {G : mm_ → Prop} {Qtq : qt_}, (∀ V' : vv_, Cl_ wd0 (Tr_ wd0 pg0 (dq + 17)) V' (rv_ G) Qtq m_304 → Wk_ V' → Tr_ wd0 pg0 (dq + 17) 228 [.inr (.inr 6), .inl 7] Mq (ri_ fun v2 M2 =>
     (if v2 = 0 then
      Tr_ wd0 pg0 (dq + 17) 228 [.inr (.inr 6), .inl 8] M2 (ri_ fun v3 M3 =>
       (if v3 = 0 then
        Tr_ wd0 pg0 (dq + 17) 228 [.inr (.inr 6), .inl 9] M3 (ri_ fun v4 M4 =>
         (if v4 = 0 then
          Tr_ wd0 pg0 (dq + 17) 228 [.inr (.inr 6), .inl 10] M4 (ri_ fun v5 M5 =>
           (if v5 = 0 then
            V' 70 [rr 6, ii mask, ii 0, none] [] M5
           else
            Tr_ wd0 pg0 (dq + 17) 244 [.inr (.inr 6), .inl 59] M5 (rv_ fun M6 =>
             Tr_ wd0 pg0 (dq + 17) 307 [.inr (.inr 6), .inl 3, .inl mask] M6 (ri_ fun v6 M7 =>
              Tr_ wd0 pg0 (dq + 17) 260 [.inr (.inr 6), .inl 0, .inl mask] M7 (rv_ fun M8 =>
               Tr_ wd0 pg0 (dq + 17) 314 [.inr (.inr 6), .inl v6] M8 (rv_ fun M9 =>
                V' 70 [rr 6, ii mask, ii 1, none] [] M9) Qtq) Qtq) Qtq) Qtq)) Qtq
         else
          Tr_ wd0 pg0 (dq + 17) 313 [.inr (.inr 6), .inl mask] M4 (rv_ fun M10 =>
           V' 70 [rr 6, ii mask, ii 1, none] [] M10) Qtq)) Qtq
       else
        Tr_ wd0 pg0 (dq + 17) 312 [.inr (.inr 6), .inl mask] M3 (rv_ fun M11 =>
         V' 70 [rr 6, ii mask, ii 1, none] [] M11) Qtq)) Qtq
     else
      Tr_ wd0 pg0 (dq + 17) 306 [.inr (.inr 6), .inl mask] M2 (rv_ fun M12 =>
       V' 70 [rr 6, ii mask, ii 1, none] [] M12) Qtq)) Qtq) → q70 dq mask 1 Mq G Qtq := fun hq V' hV' hW' => by
      refine b_304_70 (Tr_mono _) hV' hW' _ _ _ ?_
      rw [if_neg (by decide)]
      refine q_227g go ?_
      rw [if_pos rfl]
      exact hq V' hV' hW'
    refine b_167_172 (Tr_mono _) hV hW _ _ ?_
    rw [if_neg (by decide)]
    refine y_103 hE (fun c7 => ?_) (fun c7 => ?_)
    · -- INPUT
      rw [if_neg (by decide)]
      have eS : ∀ lm, LNS (Mx 70) (Mx 73) lm (a, lc_ b Mx) = (ipS (Mx 70) lm (a, lc_ b Mx)).bind (LNS (Mx 70) (Mx 73) lm) := fun lm => LNS_7 ha.1 ha.2 c7
      have toI : ∀ (G : mm_ → Prop) (Qtq : qt_), (∀ V' : vv_, Cl_ wd0 (Tr_ wd0 pg0 (dq + 17)) V' (rv_ G) Qtq m_304 → Wk_ V' → qIN dq mask Mq (fun M12 => V' 70 [rr 6, ii mask, ii 1, none] [] M12) Qtq) → q70 dq mask 1 Mq G Qtq := fun G Qtq hq => toQ fun V' hV' hW' => Tr_ri (hq V' hV' hW') (fun v M2 k => by
        by_cases c : v = 0
        · rw [if_pos c] at k; exact k.elim
        · rw [if_neg c] at k ⊢; exact k)
      refine y_168 (dq := dq) h c7 (fun hb => by have := hS hb; rw [eS] at this; exact bind_n this) (fun F' M9 N9 a9 S9 ha9 W sy hq => ?_) (fun hb Mx' hx hq => ?_)
      · exact next F' M9 N9 a9 _ S9 (by omega) (P_input h W) (LF_input W) eS sy (fun G Qtq hg => toI G Qtq fun V' hV' hW' => hq _ _ (hg V' hV' hW'))
      · exact hQ hb Mx' hx (fun G Qtq hg => toI G Qtq fun V' hV' hW' => hq _ _ fun M' p => q70_s hV' hW' p.1 (hg _ p))
    rw [if_pos rfl]
    refine y_103 hE (fun c8 => ?_) (fun c8 => ?_)
    · -- SAVE
      rw [if_neg (by decide)]
      have eS : ∀ lm, LNS (Mx 70) (Mx 73) lm (a, lc_ b Mx) = ((svS (Mx 70) a).bind fun x => some (x, lc_ b Mx)).bind (LNS (Mx 70) (Mx 73) lm) := fun lm => LNS_8 ha.1 ha.2 c8
      have toI : ∀ (G : mm_ → Prop) (Qtq : qt_), (∀ V' : vv_, Cl_ wd0 (Tr_ wd0 pg0 (dq + 17)) V' (rv_ G) Qtq m_304 → Wk_ V' → qSV dq mask Mq (fun M12 => V' 70 [rr 6, ii mask, ii 1, none] [] M12) Qtq) → q70 dq mask 1 Mq G Qtq := fun G Qtq hq => toQ fun V' hV' hW' => j_228f hT hE (by decide) c7 (by
        rw [if_pos rfl]
        refine Tr_ri (hq V' hV' hW') (fun v M2 k => ?_)
        by_cases c : v = 0
        · rw [if_pos c] at k; exact k.elim
        · rw [if_neg c] at k ⊢; exact k)
      refine y_175 (dq := dq) h c8 (fun hb => by have := hS hb; rw [eS] at this; exact bind_n (bind_n this)) (fun M' N' a' S9 ha9 G9 sy hq => ?_) (fun hb Mx' hx hq => ?_)
      · have L9 := LF_save (F := F) (b := b) G9
        have lce : lc_ b (nX_ M') = lc_ b Mx := by
          unfold lc_
          rw [nX_ne (r := 128) (by decide), nX_1 (i := 18) (by decide), nX_1 (i := 19) (by decide), G9.1.1 128 (by decide), G9.1.2.1 18 (by decide), G9.1.2.1 19 (by decide), nX_ne (r := 128) (by decide), nX_1 (i := 18) (by decide), nX_1 (i := 19) (by decide)]
        exact next F (nX_ M') (nx_ (nE_ N')) (a' + 1) _ S9 (by omega) (P_save h G9) L9 eS (fun lm _ => by rw [sy, Option.bind_some, lce]) (fun G Qtq hg => toI G Qtq fun V' hV' hW' => hq _ _ (hg V' hV' hW'))
      · exact hQ hb Mx' hx (fun G Qtq hg => toI G Qtq fun V' hV' hW' => hq _ _ fun M' p => q70_s hV' hW' p.1 (hg _ p))
    rw [if_pos rfl]
    refine y_103 hE (fun c9 => ?_) (fun c9 => ?_)
    · -- WHEN
      rw [if_neg (by decide)]
      have eS : ∀ lm, LNS (Mx 70) (Mx 73) lm (a, lc_ b Mx) = (whS (Mx 70) (Mx 73) lm (a, lc_ b Mx)).bind (LNS (Mx 70) (Mx 73) lm) := fun lm => LNS_9 ha.1 ha.2 c9
      have toI : ∀ (G : mm_ → Prop) (Qtq : qt_), (∀ V' : vv_, Cl_ wd0 (Tr_ wd0 pg0 (dq + 17)) V' (rv_ G) Qtq m_304 → Wk_ V' → qWH dq mask Mq (fun M12 => V' 70 [rr 6, ii mask, ii 1, none] [] M12) Qtq) → q70 dq mask 1 Mq G Qtq := fun G Qtq hq => toQ fun V' hV' hW' => j_228f hT hE (by decide) c7 (by
        rw [if_pos rfl]
        refine j_228f hT hE (by decide) c8 ?_
        rw [if_pos rfl]
        refine Tr_ri (hq V' hV' hW') (fun v M2 k => ?_)
        by_cases c : v = 0
        · rw [if_pos c] at k; exact k.elim
        · rw [if_neg c] at k ⊢; exact k)
      refine y_176 (dq := dq) h c9 (fun hb => by have := hS hb; rw [eS] at this; exact bind_n this) (fun F' M9 N9 a9 S9 ha9 W sy hq => ?_) (fun hb Mx' hx hq => ?_)
      · exact next F' M9 N9 a9 _ S9 (by omega) (P_when h W) (LF_when W) eS sy (fun G Qtq hg => toI G Qtq fun V' hV' hW' => hq _ _ (hg V' hV' hW'))
      · exact hQ hb Mx' hx (fun G Qtq hg => toI G Qtq fun V' hV' hW' => hq _ _ fun M' p => q70_s hV' hW' p.1 (hg _ p))
    rw [if_pos rfl]
    refine y_103 hE (fun c10 => ?_) (fun c10 => ?_)
    · -- NONE
      rw [if_neg (by decide)]
      have eS : ∀ lm, LNS (Mx 70) (Mx 73) lm (a, lc_ b Mx) = (noS (Mx 70) lm (a, lc_ b Mx)).bind (LNS (Mx 70) (Mx 73) lm) := fun lm => LNS_10 ha.1 ha.2 c10
      have toI : ∀ (G : mm_ → Prop) (Qtq : qt_), (∀ V' : vv_, Cl_ wd0 (Tr_ wd0 pg0 (dq + 17)) V' (rv_ G) Qtq m_304 → Wk_ V' → qFR (dq + 1) mask Mq (fun M12 => V' 70 [rr 6, ii mask, ii 1, none] [] M12) Qtq) → q70 dq mask 1 Mq G Qtq := fun G Qtq hq => toQ fun V' hV' hW' => j_228f hT hE (by decide) c7 (by
        rw [if_pos rfl]
        refine j_228f hT hE (by decide) c8 ?_
        rw [if_pos rfl]
        refine j_228f hT hE (by decide) c9 ?_
        rw [if_pos rfl]
        refine Tr_ri (hq V' hV' hW') (fun v M2 k => ?_)
        by_cases c : v = 0
        · rw [if_pos c] at k; exact k.elim
        · rw [if_neg c] at k ⊢; exact k)
      refine y_177 (dq := dq + 1) h c10 (fun hb => by have := hS hb; rw [eS] at this; exact bind_n this) (fun F' M' N' a' v kk S9 ha9 P Sm hv hkk E3 sy hq => ?_) (fun hb Mx' hx hq => ?_)
      · have L9 := LF_none (kk := kk) (c := Mx 5 3) (p := M' 71 a') P
        have l9 := LKP_X (b := b) (M1 := X9_ b (Xn_ M' b kk a') (Mx 5 4) (Mx 5 3)) (Mx := M') (by rw [X9_r (by decide), Xn_r (by decide)]) (by rw [X9_r (by decide), Xn_r (by decide)]) (by rw [X9_r (by decide), Xn_1 (by decide) (by decide) (by decide)]) (by rw [X9_r (by decide), Xn_1 (by decide) (by decide) (by decide)])
        refine next F' _ _ a' _ S9 (by omega) (P_none h P Sm hv hkk E3) L9 eS (fun lm hlm => ?_) (fun G Qtq hg => toI G Qtq fun V' hV' hW' => hq _ _ (hg V' hV' hW'))
        have l0 : LKP b Mx M' := by
          have l2 := LNF_t (kk := 0) (t := 0) (p := 0) P
          have e2 : Xn_ M' b 0 0 = M' := by unfold Xn_; rw [if_pos (.inr rfl)]
          rw [e2] at l2
          have l1 : LNF b F F Mx Mq (X2_ b (nX_ (nX_ Mx)) 3) (stQ_ (nx_ (nx_ Mq)) 3 mask) := LNF_tr (LNF_F (XF_tr nX_XF nX_XF) (QA_tr (QF_QA nx_QF) (QF_QA nx_QF)) (hl_QF (QF_tr nx_QF nx_QF)) (fun _ => by rw [nX_ne (by decide), nX_ne (by decide)])) (LNF_x X2_XSb stQ_QSb ⟨X2_r (by decide) (by decide), X2_r (by decide) (by decide), stQ_r (by decide) (by decide), stQ_r (by decide) (by decide), stQ_r (by decide) (by decide)⟩ ⟨stQ_r (by decide) (by decide), stQ_r (by decide) (by decide), stQ_r (by decide) (by decide)⟩ (X2_r (by decide) (by decide)) (X2_r (by decide) (by decide)) (by rw [X2_r (by decide) (by decide)]) (by rw [X2_r (by decide) (by decide)]) (fun hb => by unfold X2_; rw [if_pos hb]; exact ⟨rfl, rfl⟩))
          exact (LNF_tr l1 l2).2.2.1
        rw [l9.2]
        exact sy lm (LOK_s l0 l9.1 hlm).1
      · exact hQ hb Mx' hx (fun G Qtq hg => toI G Qtq fun V' hV' hW' => hq _ _ fun M' p => q70_s hV' hW' p.1 (hg _ p))
    rw [if_pos rfl]
    refine b_167_172 (Tr_mono _) hV hW _ _ ?_
    rw [if_pos rfl]
    have h7 : Mx 70 a < 7 ∨ 10 < Mx 70 a := by omega
    refine rv_i (hK F Mx Mq a h (Int.le_refl _) PRS_rf LNF_rf h7 (fun lm _ => LNS_0 ha.1 ha.2 h7) (fun G Qtq hg => toQ fun V' hV' hW' => j_228f hT hE (by decide) c7 ?_))
    rw [if_pos rfl]
    refine j_228f hT hE (by decide) c8 ?_
    rw [if_pos rfl]
    refine j_228f hT hE (by decide) c9 ?_
    rw [if_pos rfl]
    refine j_228f hT hE (by decide) c10 ?_
    rw [if_pos rfl]
    refine b_304_70 (Tr_mono _) hV' hW' _ _ _ ?_
    rw [if_pos rfl]
    exact rv_i hg
end LT
end T218_ln
section T219_sn
/-! names of states -/
def STA [Inhabited gh_] (b F : Int) (Mx Mq : mm_) (a ee : Int) : Prop := TS b F Mx Mq a ∧ ((0 ≤ Mx 5 4 ∧ 2 * Mx 5 4 ≤ a + ee) ∧ (0 ≤ Mq 6 62 ∧ 2 * Mq 6 62 ≤ a + ee) ∧ (0 ≤ Mq 6 63 ∧ 2 * Mq 6 63 ≤ a + ee)) ∧ (b = 1 → (∃ xs, SRW Mx Mq xs) ∧ (0 < Mq 6 62 → Mq 199 (Mq 6 62 - 1) = Mq 6 63))
def MKS (M : mm_) (mask : Int) : Prop := (0 ≤ mask ∧ mask < 4096) ∧ M 1 34 = mask ∧ ∀ l, 0 ≤ l → bt_ mask l → l < M 123 (M 1 18)
def nsX (M : mm_) (t : Int) : mm_ := up_ (up_ M 59 (12 * M 1 18 + M 123 (M 1 18)) t) 123 (M 1 18) (M 123 (M 1 18) + 1)
def nsQ (N : mm_) (t : Int) : mm_ := up_ (up_ (up_ N 179 (12 * N 6 61 + N 174 (N 6 61)) (N 151 t)) 186 (12 * N 6 61 + N 174 (N 6 61)) (N 150 t)) 174 (N 6 61) (N 174 (N 6 61) + 1)
/-- the tables of states grow -/
def SNW (b : Int) (Mx Mq M N : mm_) : Prop := (∀ i, i < 12 * Mx 1 18 + Mx 123 (Mx 1 18) ∨ 12 * Mx 1 18 + 12 ≤ i → M 59 i = Mx 59 i ∧ N 179 i = Mq 179 i ∧ N 186 i = Mq 186 i) ∧ (∀ i, i ≠ Mx 1 18 → M 123 i = Mx 123 i ∧ N 174 i = Mq 174 i) ∧ Mx 123 (Mx 1 18) ≤ M 123 (Mx 1 18)
  ∧ (∀ k, Mx 123 (Mx 1 18) ≤ k → k < M 123 (Mx 1 18) → N 186 (12 * Mx 1 18 + k) = M 71 (M 59 (12 * Mx 1 18 + k))) ∧ (b = 1 → NST Mx Mq M N)
def SMT (N : mm_) : Int → Bool := fun t => decide (stt N (N 151 t) ≠ -1)
def SOK (b : Int) (sm : Int → Bool) (Mq N : mm_) : Prop := (b = 0 → ∀ t, stt N (N 151 t) ≠ -1 → sm t = true) ∧ (b = 1 → sm = SMT Mq)
section SN
variable {d dq : Nat} {b F : Int} {M N M1 N1 M2 N2 Mx Mq : mm_} {a a' ee ee' mask k t : Int} {K : Int → mm_ → Prop} {Kv : mm_ → Prop} {Qt : qt_} {sm : Int → Bool}
theorem TS_d [Inhabited gh_] (h : TS b F Mx Mq a) (hx : XSb Mx M1) (hq : QSb Mq N1) (h1 : ∀ i : Int, i ≠ 22 → i ≠ 34 → M1 1 i = Mx 1 i) (h5 : M1 5 3 = Mx 5 3) (h9 : stt9 M1 N1) (h62 : M1 62 = Mx 62) (h128 : M1 128 = Mx 128)
    (h6 : ∀ i : Int, i ≠ 62 → i ≠ 63 → N1 6 i = Mq 6 i) (h175 : N1 175 = Mq 175) (h180 : N1 180 = Mq 180) (h187 : N1 187 = Mq 187) : TS b F M1 N1 a := by
  obtain ⟨⟨t1, t2, t3, t4, t5, t6⟩, g, l, s, ⟨u1, u2⟩, w, r, ⟨k1, k2⟩, n1, n2⟩ := h
  have e71 : M1 71 = Mx 71 := XSb_r hx (by decide)
  have i6 : ∀ i : Int, i ≠ 62 → i ≠ 63 → N1 6 i = Mq 6 i := h6
  have hE : ER b F M1 N1 a 0 := ER_X2 (ER_Q t3 (i6 _ (by decide) (by decide)) (i6 _ (by decide) (by decide)) (i6 _ (by decide) (by decide)) (i6 _ (by decide) (by decide)) (i6 _ (by decide) (by decide))) (XSb_r hx (by decide)) (fun i x y => h1 i (by omega) (by omega)) h5 (h1 19 (by omega) (by omega))
  exact ⟨⟨Tks_b hx hq t1, VT_b hx hq t2, hE, by rw [i6 75 (by decide) (by decide)]; exact t4, by rw [i6 104 (by decide) (by decide)]; exact t5, by rw [h5]; exact t6⟩, by rw [e71]; exact GT_b hx hq g, LBT_b l hx hq h62 h128 h175 h180 h187, h9, ⟨by rw [h1 29 (by decide) (by decide)]; exact u1, by rw [i6 76 (by decide) (by decide)]; exact u2⟩, by rw [h1 7 (by decide) (by decide)]; exact w, by rw [i6 90 (by decide) (by decide)]; exact r, ⟨by rw [h1 21 (by decide) (by decide)]; exact k1, by rw [h1 23 (by decide) (by decide)]; exact k2⟩, by rw [h1 19 (by decide) (by decide)]; exact n1, by rw [h5]; exact n2⟩
theorem STA_go [Inhabited gh_] (h : STA b F Mx Mq a ee) (hE : ER b F (nX_ Mx) (nx_ Mq) (a + 1) 0) : STA b F (nX_ Mx) (nx_ Mq) (a + 1) (ee - 1) := by
  obtain ⟨h1, ⟨s1, s2, s3⟩, h4⟩ := h
  refine ⟨TS_go h1 hE, ⟨by rw [nX_ne (by decide)]; omega, by rw [nx_6 (by decide)]; omega, by rw [nx_6 (by decide)]; omega⟩, fun hb => ?_⟩
  obtain ⟨⟨xs, hs⟩, hl⟩ := h4 hb
  refine ⟨⟨xs, SRW_a hs (XF_XA nX_XF) (QF_QA nx_QF)⟩, fun h => ?_⟩
  rw [nx_6 (by decide), nx_6 (by decide), nx_ne (by decide)]; rw [nx_6 (by decide)] at h; exact hl h
theorem STA_le [Inhabited gh_] (h : STA b F Mx Mq a ee) (he : ee ≤ ee') : STA b F Mx Mq a ee' := by
  obtain ⟨h1, ⟨s1, s2, s3⟩, h4⟩ := h
  exact ⟨h1, ⟨by omega, by omega, by omega⟩, h4⟩
theorem STA_34 [Inhabited gh_] (h : STA b F Mx Mq a ee) {v : Int} : STA b F (up_ Mx 1 34 v) Mq a ee := by
  obtain ⟨h1, ⟨s1, s2, s3⟩, h4⟩ := h
  have e : ∀ r : Nat, r ≠ 1 → up_ Mx 1 34 v r = Mx r := fun r h => up_ne h
  refine ⟨TS_c h1 ⟨fun r hr => e r (fun h => hr (by rw [h]; decide)), fun i hi => up_off (nm_i hi (by decide)), fun i _ _ => by rw [e 5 (by decide)]⟩ QSb_rf (fun i _ h => up_off h) (by rw [e 5 (by decide)]) (e _ (by decide)) (e _ (by decide)) (e _ (by decide)) (e _ (by decide)) (fun _ _ _ => rfl) rfl rfl rfl rfl rfl, ⟨by rw [e 5 (by decide)]; exact s1, s2, s3⟩, fun hb => ?_⟩
  obtain ⟨⟨xs, hs⟩, hl⟩ := h4 hb
  exact ⟨⟨xs, SRW_c hs (by rw [e 5 (by decide)]) (e _ (by decide)) (e _ (by decide)) (e _ (by decide)) (e _ (by decide)) (e _ (by decide)) rfl rfl rfl rfl rfl rfl rfl rfl⟩, hl⟩
theorem STA_SS [Inhabited gh_] (h : STA b F Mx Mq a ee) (hm : MKS Mx mask) : SS b F Mx Mq a mask ee := by
  obtain ⟨h1, hb, h4⟩ := h
  refine ⟨h1, hb, hm.1, fun hb => ?_⟩
  obtain ⟨hs, hl⟩ := h4 hb
  refine ⟨hs, hl, ?_⟩
  unfold MB
  rw [hm.2.1]
  exact ⟨hm.1, hm.1, fun l l0 => ⟨fun e => ⟨e, hm.2.2 l l0 e⟩, fun e => e.1⟩⟩
theorem STA_SA [Inhabited gh_] (h : STA b F Mx Mq a ee) (hm : Mx 1 34 = w32 (sl_ 1 (Mx 123 (Mx 1 18)) - 1)) : SS b F Mx Mq a 4095 ee := by
  obtain ⟨h1, hb, h4⟩ := h
  have s9 := h1.2.2.2.1.1
  refine ⟨h1, hb, by decide, fun hb => ?_⟩
  obtain ⟨hs, hl⟩ := h4 hb
  refine ⟨hs, hl, ?_⟩
  have o1 := ones_bt (n := Mx 123 (Mx 1 18)) ⟨s9.1, s9.2.1⟩
  have o2 := ones_bt (n := 12) (by decide)
  rw [show w32 (sl_ 1 12 - 1) = 4095 by decide] at o2
  rw [hm]
  refine ⟨o1.1, o2.1, fun l l0 => ?_⟩
  rw [o1.2 l l0, o2.2 l l0]
  exact ⟨fun e => ⟨by omega, e⟩, fun e => e.2⟩
theorem nsX_r [Inhabited gh_] {r : Nat} (h1 : r ≠ 59) (h2 : r ≠ 123) : nsX M t r = M r := by unfold nsX; rw [up_ne h2, up_ne h1]
theorem nsQ_r [Inhabited gh_] {r : Nat} (h1 : r ≠ 179) (h2 : r ≠ 186) (h3 : r ≠ 174) : nsQ N t r = N r := by unfold nsQ; rw [up_ne h3, up_ne h2, up_ne h1]
theorem SNW_rf [Inhabited gh_] : SNW b M N M N := ⟨fun _ _ => ⟨rfl, rfl, rfl⟩, fun _ _ => ⟨rfl, rfl⟩, Int.le_refl _, fun k a b => by omega, fun _ => ⟨rfl, rfl, rfl, rfl, rfl⟩⟩
theorem SNW_tr [Inhabited gh_] (hT : 0 ≤ Mx 1 18) (h12 : M2 123 (Mx 1 18) ≤ 12) (e71 : M2 71 = M1 71) (h18 : M1 1 18 = Mx 1 18) (h1 : SNW b Mx Mq M1 N1) (h2 : SNW b M1 N1 M2 N2) : SNW b Mx Mq M2 N2 := by
  obtain ⟨a1, a2, a3, a4, a5⟩ := h1
  obtain ⟨b1, b2, b3, b4, b5⟩ := h2
  rw [h18] at b1 b2 b3 b4
  refine ⟨fun i hi => ?_, fun i hi => ⟨(b2 i hi).1.trans (a2 i hi).1, (b2 i hi).2.trans (a2 i hi).2⟩, by omega, fun k k0 k1 => ?_, fun hb => NST_tr (a5 hb) (b5 hb)⟩
  · have x := b1 i (by omega)
    have y := a1 i hi
    exact ⟨x.1.trans y.1, x.2.1.trans y.2.1, x.2.2.trans y.2.2⟩
  · by_cases c : k < M1 123 (Mx 1 18)
    · have x := b1 (12 * Mx 1 18 + k) (.inl (by omega))
      rw [x.2.2, x.1, e71]; exact a4 k k0 c
    · exact b4 k (by omega) k1
theorem SNW_N [Inhabited gh_] (h : NST Mx Mq M N) : SNW b Mx Mq M N := by
  obtain ⟨a, b', c, d, e⟩ := h
  exact ⟨fun i _ => by rw [a, d, e]; exact ⟨rfl, rfl, rfl⟩, fun i _ => by rw [b', c]; exact ⟨rfl, rfl⟩, by rw [b']; exact Int.le_refl _, fun k x y => by rw [b'] at y; omega, fun _ => ⟨a, b', c, d, e⟩⟩
end SN
end T219_sn

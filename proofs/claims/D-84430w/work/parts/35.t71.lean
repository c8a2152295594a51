section T71_er
theorem np_le [Inhabited gh_] {q : Int × Int} {k p : Int} (h : vk_ q.1 q.2) (h1 : 1 ≤ k) (h2 : k ≤ 7) (h3 : 0 ≤ p) (h4 : p ≤ 5000) : kk_ (np_ 1 q k p).1 (np_ 1 q k p).2 ≤ kk_ q.1 q.2 ∧ vk_ (np_ 1 q k p).1 (np_ 1 q k p).2 := by
  obtain ⟨a, b⟩ := kk_np h h1 h2 h3 h4
  exact ⟨by rw [a]; (clear h h1 h2 h3 h4 a b; omega), b⟩
theorem aq_le [Inhabited gh_] {q : Int × Int} {x : Int × Int × Int} {w : Int} (h : vk_ q.1 q.2) (h3 : 0 ≤ x.2.1) (h4 : x.2.1 ≤ 5000) : kk_ (aq_ 1 q x w).1 (aq_ 1 q x w).2 ≤ kk_ q.1 q.2 ∧ vk_ (aq_ 1 q x w).1 (aq_ 1 q x w).2 := by
  unfold aq_
  split
  · exact np_le h (by decide) (by decide) h3 h4
  · exact ⟨Int.le_refl _, h⟩
theorem rq_le [Inhabited gh_] {q : Int × Int} {x y : Int × Int × Int} {s : Int} (h : vk_ q.1 q.2) (h3 : 0 ≤ x.2.1) (h4 : x.2.1 ≤ 5000) (h5 : 0 ≤ y.2.1) (h6 : y.2.1 ≤ 5000) : kk_ (rq_ 1 q s x y).1 (rq_ 1 q s x y).2 ≤ kk_ q.1 q.2 := by
  unfold rq_
  split
  · split
    · exact (np_le h (by decide) (by decide) h5 h6).1
    · exact Int.le_refl _
  · have a := aq_le (w := rw_ s) h h3 h4
    exact Int.le_trans (aq_le a.2 h5 h6).1 a.1
/-! two parts of an e and the sign between them: the whole -/
section EB
variable {b F F2 : Int} {Mx Mq Mx1 Mq1 Mx3 Mq3 Mq4 Mh : mm_} {a a1 a3 o : Int} {sg : List (Int × Int)} {ws : List (Int × Int × Int)} {c1 c2 c3 : Int} {cm : List Int} {f : Int} {fm : List (Int × Int)} {cc : Int} {cd y1 y2 : List Int} {s1 t1 bd1 s2 t2 bd2 n1 n2 n k sgn : Int} {l1 l2 : List (Int × Int)}
theorem sh_r [Inhabited gh_] {k : Int} : 20 ≤ sh_ k ∧ sh_ k ≤ 32 := by
  unfold sh_; omega
theorem ts_op [Inhabited gh_] {Mq : mm_} {s t1 t2 : Int} {r : List Int} (h1 : 20 ≤ s) (h2 : s ≤ 32) (h : if s = 25 ∨ s = 26 then t1 = t2 else t1 = rw_ s ∧ t2 = rw_ s) : ts_ Mq (s, 0) (t2 :: t1 :: r) ((if s < 25 then 1 else 2) :: r) := by
  by_cases any : s = 25 ∨ s = 26
  · rw [if_pos any] at h
    subst h
    refine .inr (.inr (.inr (.inr (.inr (.inr (.inr (.inl ⟨any, t1, r, rfl, ?_⟩)))))))
    rw [if_neg (by omega)]
  · rw [if_neg any] at h
    rw [h.1, h.2]
    exact .inr (.inr (.inr (.inr (.inr (.inr (.inr (.inr ⟨h1, h2, by (clear h1 h2 h; lia), by omega, r, rfl, rfl⟩)))))))
theorem EP_bin [Inhabited gh_] (hT : Tks Mx Mq) (hga : gd_ Mx a) (h1 : EP n1 b F Mx Mq Mx1 Mq1 a a1 o sg ws c1 cm f fm cc cd y1 s1 t1 bd1 l1) (hsg : sgn = sh_ k) (hk : Mx 70 a1 = k) (hlv : lv_ k ≠ 0) (h12 : a1 < 1200)
    (hMh : Mh = if sgn = 25 ∨ sgn = 26 then Mx1 else hX_ Mx1 s1 (rw_ sgn - 1) a) (hF2 : F2 = if b = 0 ∨ (sgn = 25 ∨ sgn = 26) ∨ s1 = -1 ∨ s1 = rw_ sgn - 1 then F else min F (8 * Mx 71 a + 5))
    (h2 : EP n2 b F2 (nX_ Mh) (mi_ Mq1 cm.length c2 sgn a1) Mx3 Mq3 (a1 + 1) a3 o ((sgn, a1) :: sg) ((t1, Mx 71 a, bd1) :: ws) c3 cm f (l1 ++ fm) cc (y1 ++ cd) y2 s2 t2 bd2 l2)
    (hs1 : b = 1 → bd1 = 1 → s1 = -1 ∨ (s1 = rw_ sgn - 1 ∧ ¬ (sgn = 25 ∨ sgn = 26))) (hs2 : b = 1 → bd2 = 1 → s2 = -1)
    (hRd : Rd Mq3 Mq4 sgn (t1, Mx 71 a, bd1) (t2, nX_ Mh 71 (a1 + 1), bd2)) (hQ4 : QE Mq4 sg ((if sgn < 25 then 1 else 2, Mx 71 a, rb_ sgn (t1, Mx 71 a, bd1) (t2, nX_ Mh 71 (a1 + 1), bd2)) :: ws) (c3 :: cm) f ((sgn, 0) :: (l2 ++ (l1 ++ fm))))
    (hn : b = 1 → bd1 = 0 → bd2 = 0 → (if sgn = 25 ∨ sgn = 26 then t1 = t2 else t1 = rw_ sgn ∧ t2 = rw_ sgn) → n1 ≤ n ∧ n2 + 1 ≤ n) :
    EP n b F Mx Mq (pX_ (hX_ Mx3 s2 (if sgn = 25 ∨ sgn = 26 then s1 else rw_ sgn - 1) (a1 + 1)) (xo9_ sgn)) Mq4 a a3 o sg ws c3 cm f fm cc cd (if b = 0 then [] else xo9_ sgn :: (y2 ++ y1)) ((if sgn < 25 then 1 else 2) - 1) (if sgn < 25 then 1 else 2) (rb_ sgn (t1, Mx 71 a, bd1) (t2, nX_ Mh 71 (a1 + 1), bd2)) ((sgn, 0) :: (l2 ++ l1)) := by
  obtain ⟨u1, u2, u3, u4, u5, u6, u7, ⟨u8, u9, u10, u11⟩, ⟨u12, u13⟩, u14, u15⟩ := h1
  have hsr : 20 ≤ sgn ∧ sgn ≤ 32 := by rw [hsg]; exact sh_r
  have hp := tk_p hT hga
  have hb01 : b = 0 ∨ b = 1 := u4.2.2.2.2.2.2.2.2.1
  have hb8 : Mx1 1 8 = b := u4.2.2.2.2.2.2.1
  -- the middle
  have hMh' : (Mh = Mx1 ∧ F2 = F) ∨ (b = 1 ∧ Mh = nt1_ Mx1 5 a ∧ F2 = min F (8 * Mx 71 a + 5)) := by
    rw [hMh, hF2]
    by_cases any : sgn = 25 ∨ sgn = 26
    · rw [if_pos any, if_pos (.inr (.inl any))]; exact .inl ⟨rfl, rfl⟩
    · rw [if_neg any]
      rcases hX_c (M := Mx1) s1 (rw_ sgn - 1) a hb8 hb01 with h | h
      · refine .inl ⟨h.1, ?_⟩
        rw [if_pos]
        rcases h.2 with h3 | h3
        · exact .inl h3
        · exact .inr (.inr h3)
      · refine .inr ⟨h.1, h.2.2.2, ?_⟩
        rw [if_neg]
        rintro (h3 | h3 | h3 | h3)
        · (clear hT hga hsg hk hlv h12 hMh hF2 h2 hs1 hs2 hRd hQ4 hn u1 u2 u3 u4 u5 u6 u7 u8 u9 u10 u11 u12 u13 u14 u15 hsr hp hb01 hb8 any; omega)
        · exact any h3
        · exact h.2.1 h3
        · exact h.2.2.1 h3
  have hmid := EP_mid (cm := cm) (c2 := c2) hT hga u2 u4 u8 hk hlv h12 hMh'
  rw [← hsg] at hmid
  obtain ⟨m1, m2, m3, m4⟩ := hmid
  obtain ⟨v1, v2, v3, v4, v5, v6, v7, ⟨v8, v9, v10, v11⟩, ⟨v12, v13⟩, v14, v15⟩ := h2
  have h71 : nX_ Mh 71 = Mx 71 := (XF_70 m2 (by decide) (by decide) (by decide)).trans (XF_70 u2 (by decide) (by decide) (by decide))
  have g2 : gd_ Mx (a1 + 1) := gd_c ((XF_70 m2 (r := 70) (by decide) (by decide) (by decide)).trans (XF_70 u2 (by decide) (by decide) (by decide))).symm m1.1
  have hp2 := tk_p hT g2
  rw [h71] at hRd hQ4 ⊢
  generalize hw2 : (if sgn = 25 ∨ sgn = 26 then s1 else rw_ sgn - 1) = w2
  generalize hp1e : Mx 71 a = p1 at *
  generalize hp2e : Mx 71 (a1 + 1) = p2 at *
  obtain ⟨r1, r2, r3, r4⟩ := hRd
  have hXm : XF Mx (nX_ Mh) := XF_tr u2 m2
  have hX3 : XF Mx Mx3 := XF_tr hXm v2
  have hQm : QF Mq (mi_ Mq1 cm.length c2 sgn a1) := QF_tr u3 mi_QF
  have hQ3 : QF Mq Mq3 := QF_tr hQm v3
  have h71' : Mx3 71 = Mx 71 := XF_70 hX3 (by decide) (by decide) (by decide)
  obtain ⟨w1, w3, w4, w5, w6, w7, w8, w9, w10, w11, w12, w13, w14, w15, w16⟩ := v4
  -- X behind the right part
  have hb3 : Mx3 1 8 = b := w8
  have hc := hX_c (M := Mx3) s2 w2 (a1 + 1) hb3 hb01
  generalize hMk : hX_ Mx3 s2 w2 (a1 + 1) = Mk at *
  have k1 : ∀ i : Int, i ≠ 4 → i ≠ 5 → i ≠ 7 → Mk 1 i = Mx3 1 i := fun i x y z => by rw [← hMk]; exact hX_1 x y z
  have kr : ∀ r : Nat, r ≠ 1 → Mk r = Mx3 r := fun r h => by rw [← hMk]; exact hX_r h
  have kXF : XF Mx3 Mk := by rw [← hMk]; exact hX_XF
  have hk8 : Mk 1 8 = b := by rw [k1 8 (by decide) (by decide) (by decide)]; exact hb3
  have kE : XE Mk cc (y2 ++ (y1 ++ cd)) := XE_c (by rw [kr 5 (by decide)]) (kr 142 (by decide)) v8
  have k7 : Mk 1 7 ≤ Mx3 1 7 + 1 ∧ Mx3 1 7 ≤ Mk 1 7 := by
    rcases hc with h | h
    · rw [h.1]; (clear hT hga hsg hk hlv h12 hMh hs1 hs2 hn u1 u2 u3 u4 u6 u7 u8 u9 u10 u11 u12 u13 u14 u15 hsr hb01 hb8 m1 m2 m3 m4 v1 v2 v3 v6 v7 v8 v9 v10 v11 v12 v13 v14 v15 h71 g2 hw2 hp1e hF2 u5 hp hMh' v5 hp2e hp2 hQ4 r1 r2 r3 r4 hXm hX3 hQm hQ3 h71' w1 w3 w4 w5 w6 w7 w8 w9 w10 w11 w12 w13 w14 w15 w16 hb3 hMk k1 kr kXF hk8 kE h; lia)
    · rw [h.2.2.2, nt1_7]; (clear hT hga hsg hk hlv h12 hMh hs1 hs2 hn u1 u2 u3 u4 u6 u7 u8 u9 u10 u11 u12 u13 u14 u15 hsr hb01 hb8 m1 m2 m3 m4 v1 v2 v3 v6 v7 v8 v9 v10 v11 v12 v13 v14 v15 h71 g2 hw2 hp1e hF2 u5 hp hMh' v5 hp2e hp2 hQ4 r1 r2 r3 r4 hXm hX3 hQm hQ3 h71' w1 w3 w4 w5 w6 w7 w8 w9 w10 w11 w12 w13 w14 w15 w16 hb3 hMk k1 kr kXF hk8 kE h; lia)
  have hXF4 : XF Mx (pX_ Mk (xo9_ sgn)) := XF_tr hX3 (XF_tr kXF pX_XF)
  have hQF4 : QF Mq Mq4 := QF_tr hQ3 r1
  have len1 : (y1.length : Int) ≤ 3 * (a1 - a) := u11
  have st1 : Mx1 5 3 = cc + (y1 ++ cd).length := u8.1
  have st1b : Mx1 5 3 ≤ 9 * a1 + 1000 := u4.2.2.2.2.2.2.2.2.2.2.2.2.2.2
  have hE4 : XE (pX_ Mk (xo9_ sgn)) cc ((if b = 0 then [] else xo9_ sgn :: (y2 ++ y1)) ++ cd) := by
    by_cases hb : b = 0
    · rw [if_pos hb, pX_0 (by rw [hk8]; exact hb)]
      rw [u9 hb, v9 hb] at kE
      exact kE
    · rw [if_neg hb]
      have := pX_E (v := xo9_ sgn) (by rw [hk8]; exact hb) kE
      rw [← List.append_assoc] at this
      exact this
  have lenY : (((if b = 0 then [] else xo9_ sgn :: (y2 ++ y1)) : List Int).length : Int) ≤ 3 * (a3 - a) := by
    split
    · simp only [List.length_nil]; (clear hT hga hsg hk hlv h12 hMh hs1 hs2 hn u1 u2 u3 u4 u6 u8 u9 u10 u11 u12 u13 u14 u15 hsr hb01 hb8 m1 m2 m3 m4 v2 v3 v6 v7 v8 v9 v10 v11 v12 v13 v14 v15 h71 g2 hw2 hp1e hF2 u5 hp hMh' v5 hp2e hp2 hQ4 r1 r2 r3 r4 hXm hX3 hQm hQ3 h71' w1 w4 w5 w6 w7 w8 w9 w10 w11 w12 w13 w14 w15 w16 hb3 hMk hc k1 kr kXF hk8 kE k7 hXF4 hQF4 len1 st1 st1b hE4; lia)
    · simp only [List.length_cons, List.length_append]; push_cast; (clear hT hga hsg hk hlv h12 hMh hs1 hs2 hn u1 u2 u3 u4 u6 u7 u8 u9 u10 u12 u13 u14 u15 hsr hb01 hb8 m1 m2 m3 m4 v1 v2 v3 v6 v7 v8 v9 v10 v12 v13 v14 v15 h71 g2 hw2 hp1e hF2 u5 hp hMh' v5 hp2e hp2 hQ4 r1 r2 r3 r4 hXm hX3 hQm hQ3 h71' w1 w4 w5 w6 w7 w8 w9 w10 w11 w12 w13 w14 w15 w16 hb3 hMk hc k1 kr kXF hk8 kE k7 hXF4 hQF4 len1 st1 st1b hE4; lia)
  have step4 : pX_ Mk (xo9_ sgn) 5 3 ≤ 9 * a3 + 1000 := by
    rw [hE4.1]
    split
    · simp only [List.nil_append]
      simp only [List.length_append] at st1; push_cast at st1; (clear hT hga hsg hk hlv h12 hMh hs1 hs2 hn u1 u2 u3 u4 u6 u7 u8 u9 u10 u11 u12 u13 u14 u15 hsr hb01 hb8 m1 m2 m3 m4 v2 v3 v6 v7 v8 v9 v10 v11 v12 v13 v14 v15 h71 g2 hw2 hp1e hF2 u5 hp hMh' v5 hp2e hp2 hQ4 r1 r2 r3 r4 hXm hX3 hQm hQ3 h71' w1 w4 w5 w6 w7 w8 w9 w10 w11 w12 w13 w14 w15 w16 hb3 hMk hc k1 kr kXF hk8 kE k7 hXF4 hQF4 len1 hE4 lenY; lia)
    · simp only [List.cons_append, List.length_cons, List.length_append] at st1 ⊢; push_cast at st1 ⊢; (clear hT hga hsg hk hlv h12 hMh hs1 hs2 hn u1 u2 u3 u4 u6 u7 u8 u9 u10 u11 u12 u13 u14 u15 hsr hb01 hb8 m1 m2 m3 m4 v2 v3 v6 v7 v8 v9 v10 v12 v13 v14 v15 h71 g2 hw2 hp1e hF2 u5 hp hMh' v5 hp2e hp2 hQ4 r1 r2 r3 r4 hXm hX3 hQm hQ3 h71' w1 w4 w5 w6 w7 w8 w9 w10 w11 w12 w13 w14 w15 w16 hb3 hMk hc k1 kr kXF hk8 kE k7 hXF4 hQF4 len1 hE4 lenY; lia)
  have fq3 : b = 1 → bd2 = 0 → fqq_ Mq3 = fqq_ Mq1 := fun hb h => by rw [((v14 hb).1 h).2.2.2.2, mi_fq]
  -- notes
  have notes : b = 1 → _ := fun hb => bin_notes (F := F) (F2 := F2) (kx1 := 0) (kx3 := kk_ (Mx3 1 4) (Mx3 1 5)) (kx4 := kk_ (Mk 1 4) (Mk 1 5)) (q3 := fqq_ Mq3) (s := sgn) (s1 := s1) (s2 := s2) (w := rw_ sgn - 1) (w2 := w2) (p1 := p1) (p2 := p2) (t1 := t1) (t2 := t2) (bd1 := bd1) (bd2 := bd2) (fl0 := Mx 1 7) (fl1 := Mx1 1 7) (fl2 := nX_ Mh 1 7) (fl3 := Mx3 1 7) (fl4 := Mk 1 7) hsr w12.2.1 hp hp2 u6 v6 rfl hw2.symm
    ⟨fun h => ⟨((u14 hb).1 h).1, ((u14 hb).1 h).2.1, ((u14 hb).1 h).2.2.1⟩, hs1 hb⟩ ⟨fun h => ⟨((v14 hb).1 h).1, ((v14 hb).1 h).2.1, ((v14 hb).1 h).2.2.1⟩, hs2 hb⟩
    (by rw [hF2]
        by_cases c : (sgn = 25 ∨ sgn = 26) ∨ s1 = -1 ∨ s1 = rw_ sgn - 1
        · rw [if_pos (.inr c), if_pos c]
        · rw [if_neg (fun h => h.elim (fun h9 => by (clear hT hga hsg hk hlv h12 hMh hs1 hs2 hn u1 u2 u3 u4 u6 u7 u8 u9 u10 u11 u12 u13 u14 u15 hsr hb01 hb8 m1 m2 m3 m4 v1 v2 v3 v6 v7 v8 v9 v10 v11 v12 v13 v14 v15 h71 g2 hw2 hp1e hF2 u5 hp hMh' v5 hp2e hp2 hQ4 r1 r2 r3 r4 hXm hX3 hQm hQ3 h71' w1 w3 w4 w5 w6 w7 w10 w11 w12 w13 w14 w15 w16 hb3 hMk hc k1 kr kXF kE k7 hXF4 hQF4 len1 st1 st1b hE4 lenY step4 fq3 c h; lia)) c), if_neg c])
    w12.2.2.1
    (by rcases hc with h | h
        · rw [h.1, if_pos (by rcases h.2 with h9 | h9; (clear hT hga hsg hk hlv h12 hMh hs1 hs2 hn u1 u2 u3 u4 u6 u7 u8 u9 u10 u11 u12 u13 u14 u15 hsr hb01 hb8 m1 m2 m3 m4 v1 v2 v3 v6 v7 v8 v9 v10 v11 v12 v13 v14 v15 h71 g2 hw2 hp1e hF2 u5 hp hMh' v5 hp2e hp2 hQ4 r1 r2 r3 r4 hXm hX3 hQm hQ3 h71' w1 w3 w4 w5 w6 w7 w10 w11 w12 w13 w14 w15 w16 hb3 hMk k1 kr kXF kE k7 hXF4 hQF4 len1 st1 st1b hE4 lenY step4 fq3 h; lia); exact h9)]
        · rw [h.2.2.2, if_neg (by intro h9; rcases h9 with h9 | h9; exact h.2.1 h9; exact h.2.2.1 h9)]
          have := (kk_nt1 (M := Mx3) (k := 5) (t := a1 + 1) w12.1 (by decide) (by decide) (by rw [h71', hp2e]; exact hp2.1) (by rw [h71', hp2e]; exact hp2.2)).1
          rw [this, h71', hp2e])
    (fun hb1 hb2 => by
      have e := fq3 hb hb2
      have hq := ((u14 hb).2 hb1).2.2
      rw [e]
      have hm := (hT (a1 + 1) g2).2.2.2.2.1 a1 (gd_c (XF_70 u2 (r := 70) (by decide) (by decide) (by decide)).symm u4.1) (by (clear hT hga hsg hk hlv h12 hMh hs1 hs2 hn u1 u2 u3 u4 u6 u7 u8 u9 u10 u11 u12 u13 u14 u15 hsr hb01 hb8 m1 m2 m3 m4 v1 v2 v3 v6 v7 v8 v9 v10 v11 v12 v13 v14 v15 h71 g2 hw2 hp1e hF2 u5 hp hMh' v5 hp2e hp2 hQ4 r1 r2 r3 r4 hXm hX3 hQm hQ3 h71' w1 w3 w4 w5 w6 w7 w8 w9 w10 w11 w12 w13 w14 w15 w16 hb3 hMk hc k1 kr kXF hk8 kE k7 hXF4 hQF4 len1 st1 st1b hE4 lenY step4 fq3 hb hb1 hb2 e hq; lia))
      rw [hp2e] at hm
      show kk_ (Mq1 6 13) (Mq1 6 14) < 8 * p2
      (clear hT hga hsg hk hlv h12 hMh hs1 hs2 hn u1 u2 u3 u4 u6 u7 u8 u9 u10 u11 u12 u13 u14 u15 hsr hb01 hb8 m1 m2 m3 m4 v1 v2 v3 v6 v7 v8 v9 v10 v11 v12 v13 v14 v15 h71 g2 hw2 hp1e hF2 u5 hp hMh' v5 hp2e hp2 hQ4 r1 r2 r3 r4 hXm hX3 hQm hQ3 h71' w1 w3 w4 w5 w6 w7 w8 w9 w10 w11 w12 w13 w14 w15 w16 hb3 hMk hc k1 kr kXF hk8 kE k7 hXF4 hQF4 len1 st1 st1b hE4 lenY step4 fq3 hb hb1 hb2 e; lia))
    ⟨fun h => ((u14 hb).1 h).2.2.2.1, fun h => ((u14 hb).2 h).2.1⟩
    (by rw [nX_1 (by decide), hMh]
        by_cases any : sgn = 25 ∨ sgn = 26
        · rw [if_pos any, if_pos (.inl any)]
        · rw [if_neg any]
          rcases hX_c (M := Mx1) s1 (rw_ sgn - 1) a hb8 hb01 with h | h
          · rw [h.1, if_pos]
            rcases h.2 with h3 | h3
            · omega
            · exact .inr h3
          · rw [h.2.2.2, nt1_7, if_neg]
            rintro (h3 | h3 | h3)
            · exact any h3
            · exact h.2.1 h3
            · exact h.2.2.1 h3)
    ⟨fun h => ((v14 hb).1 h).2.2.2.1, fun h => ((v14 hb).2 h).2.1⟩
    (by rcases hc with h | h
        · rw [h.1, if_pos (by rcases h.2 with h9 | h9; omega; exact h9)]
        · rw [h.2.2.2, nt1_7, if_neg (by intro h9; rcases h9 with h9 | h9; exact h.2.1 h9; exact h.2.2.1 h9)])
  have hj : Mq3 6 16 = b := w9
  rw [hj] at r4
  have rb01 : rb_ sgn (t1, p1, bd1) (t2, p2, bd2) = 0 ∨ rb_ sgn (t1, p1, bd1) (t2, p2, bd2) = 1 := by
    unfold rb_; split
    · split
      · exact .inl rfl
      · exact .inr rfl
    · split
      · exact .inl rfl
      · exact .inr rfl
  refine ⟨by (clear hT hga hsg hk hlv h12 hMh hs1 hs2 hn u1 u2 u3 u4 u6 u8 u9 u10 u11 u12 u13 u14 u15 hsr hb01 hb8 m1 m2 m3 m4 v2 v3 v6 v7 v8 v9 v10 v11 v12 v13 v14 v15 h71 g2 hw2 hp1e hF2 u5 hp hMh' v5 hp2e hp2 hQ4 r1 r2 r3 r4 hXm hX3 hQm hQ3 h71' w1 w4 w5 w6 w7 w8 w9 w10 w11 w12 w13 w14 w15 w16 hb3 hMk hc k1 kr kXF hk8 kE k7 hXF4 hQF4 len1 st1 st1b hE4 lenY step4 fq3 notes hj rb01; lia), hXF4, hQF4, ⟨?_, ?_, ?_, ?_, ?_, w7, ?_, ?_, hb01, ?_, ?_, ?_, ?_, ?_, step4⟩, ?_, rb01, ?_, ⟨hE4, fun hb => by rw [if_pos hb], ?_, lenY⟩, ⟨?_, ?_⟩, ?_, ?_⟩
  · exact gd_c (XF_70 (XF_tr kXF pX_XF) (by decide) (by decide) (by decide)) w1
  · rw [pX_1, k1 3 (by decide) (by decide) (by decide)]; exact w3
  · rw [r2]; exact w4
  · rw [pX_1, k1 6 (by decide) (by decide) (by decide)]; exact w5
  · rw [r3]; exact w6
  · rw [pX_1]; exact hk8
  · rw [QF_16 r1]; exact hj
  · intro hb
    have h13 : fqq_ Mq4 = fqq_ Mq3 := by
      rw [r4, hb]; unfold rq_ aq_ np_
      simp only [if_pos]
      split
      · split <;> rfl
      · split <;> split <;> rfl
    have := congrArg Prod.fst h13
    rw [show Mq4 6 13 = Mq3 6 13 from this]; exact w11 hb
  · by_cases hb : b = 1
    rotate_left
    · have hb0 : b = 0 := by (clear hT hga hsg hk hlv h12 hMh hs1 hs2 hn u1 u2 u3 u4 u6 u7 u8 u9 u10 u11 u12 u13 u14 u15 hsr hb01 hb8 m1 m2 m3 m4 v1 v2 v3 v6 v7 v8 v9 v10 v11 v12 v13 v14 v15 h71 g2 hw2 hp1e hF2 u5 hp hMh' v5 hp2e hp2 hQ4 r1 r2 r3 r4 hXm hX3 hQm hQ3 h71' w1 w3 w4 w5 w6 w7 w12 w13 w14 w15 w16 hb3 hMk k1 kr kXF kE k7 hXF4 hQF4 len1 st1 st1b hE4 lenY step4 hj; lia)
      have h13 : fqq_ Mq4 = fqq_ Mq3 := by
        rw [r4, hb0]; unfold rq_ aq_ np_
        simp only [if_pos]
        split
        · split <;> rfl
        · split <;> split <;> rfl
      have g13 : Mq4 6 13 = Mq3 6 13 := congrArg Prod.fst h13
      have g14 : Mq4 6 14 = Mq3 6 14 := congrArg Prod.snd h13
      have hk0 : Mk = Mx3 := by
        rcases hc with h | h
        · exact h.1
        · exact absurd h.1 hb
      have hFF : F2 = F := by rw [hF2, if_pos (.inl hb0)]
      rw [hFF] at w12
      unfold NR
      rw [pX_1, hk0, g13, g14]
      exact ⟨w12.1, w12.2.1, w12.2.2.1, w12.2.2.2.1, .inl (by rw [QF_16 r1, hj]; exact hb0)⟩
    have nn := notes hb
    rw [hb] at r4
    have e13 : Mq4 6 13 = (rq_ 1 (fqq_ Mq3) sgn (t1, p1, bd1) (t2, p2, bd2)).1 := congrArg Prod.fst r4
    have e14 : Mq4 6 14 = (rq_ 1 (fqq_ Mq3) sgn (t1, p1, bd1) (t2, p2, bd2)).2 := congrArg Prod.snd r4
    refine ⟨?_, by rw [e13, e14]; exact nn.1, by rw [pX_1, e13, e14]; exact nn.2.1, ?_⟩
    · rw [pX_1]
      rcases hc with h | h
      · rw [h.1]; exact w12.1
      · rw [h.2.2.2]
        exact (kk_nt1 (M := Mx3) (k := 5) (t := a1 + 1) w12.1 (by decide) (by decide) (by rw [h71', hp2e]; exact hp2.1) (by rw [h71', hp2e]; exact hp2.2)).2
    · refine ⟨u4.2.2.2.2.2.2.2.2.2.2.1.2.2.2.1, .inr ?_⟩
      rw [e13, e14]
      refine Int.le_trans (rq_le (q := fqq_ Mq3) w12.2.1 hp.1 hp.2 hp2.1 hp2.2) ?_
      rcases w12.2.2.2.2 with z | z
      · (clear hT hga hsg hk hlv h12 hMh hs1 hs2 hn u1 u2 u3 u4 u6 u7 u8 u9 u10 u11 u12 u13 u14 u15 hsr hb01 hb8 m1 m2 m3 m4 v1 v2 v3 v6 v7 v8 v9 v10 v11 v12 v13 v14 v15 h71 g2 hw2 hp1e hF2 u5 hp hMh' v5 hp2e hp2 hQ4 r1 r2 r3 r4 hXm hX3 hQm hQ3 h71' w1 w3 w4 w5 w6 w7 w10 w11 w12 w13 w14 w15 w16 hb3 hMk hc k1 kr kXF kE k7 hXF4 hQF4 len1 st1 st1b hE4 lenY step4 fq3 notes hj rb01 nn e13 e14; lia)
      · rw [pX_1, k1 19 (by decide) (by decide) (by decide)]; exact z
  · rw [pX_1]; (clear hT hga hsg hk hlv h12 hMh hs1 hs2 hn u1 u2 u3 u4 u6 u7 u8 u9 u10 u11 u12 u13 u14 u15 hsr hb01 hb8 m1 m2 m3 m4 v1 v2 v3 v6 v7 v8 v9 v10 v11 v12 v13 v14 v15 h71 g2 hw2 hp1e hF2 u5 hp hMh' v5 hp2e hp2 hQ4 r1 r2 r3 r4 hXm hX3 hQm hQ3 h71' w1 w3 w4 w5 w6 w7 w8 w9 w10 w11 w12 w14 w15 w16 hb3 hMk hc k1 kr kXF hk8 kE hXF4 hQF4 len1 st1 st1b hE4 lenY step4 fq3 notes hj rb01; lia)
  · have fb1 : Mx1 1 7 + 8 * (1201 - a1) ≤ 1000001000 - (gg_ : Int) := u4.2.2.2.2.2.2.2.2.2.2.2.2.1
    rw [pX_1]; have := k7; rcases m4 with h | h <;> (clear hT hga hsg hk hlv h12 hMh hs1 hs2 hn u1 u2 u3 u4 u6 u7 u8 u9 u10 u11 u12 u13 u14 u15 hsr hb01 hb8 m1 m2 m3 v1 v2 v3 v6 v7 v8 v9 v10 v11 v13 v14 v15 h71 g2 hw2 hp1e hF2 u5 hp hMh' v5 hp2e hp2 hQ4 r1 r2 r3 r4 hXm hX3 hQm hQ3 h71' w1 w4 w5 w6 w7 w8 w9 w10 w11 w12 w13 w14 w15 w16 hb3 hMk hc k1 kr kXF hk8 kE hXF4 hQF4 len1 st1 st1b hE4 lenY step4 fq3 notes hj rb01 this; omega)
  · rw [hE4.1]
    have : 0 ≤ Mx1 5 3 := u4.2.2.2.2.2.2.2.2.2.2.2.2.2.1
    split
    · simp only [List.nil_append]
      have e1 := u9 (by assumption)
      rw [e1] at st1; simp only [List.nil_append] at st1; (clear hT hga hsg hk hlv h12 hMh hs1 hs2 hn u1 u2 u3 u4 u6 u7 u8 u9 u10 u11 u12 u13 u14 u15 hsr hb01 hb8 m1 m2 m3 m4 v1 v2 v3 v6 v7 v8 v9 v10 v11 v12 v13 v14 v15 h71 g2 hw2 hp1e hF2 u5 hp hMh' v5 hp2e hp2 hQ4 r1 r2 r3 r4 hXm hX3 hQm hQ3 h71' w1 w3 w4 w5 w6 w7 w8 w9 w10 w11 w12 w13 w14 w15 w16 hb3 hMk hc k1 kr kXF hk8 kE k7 hXF4 hQF4 len1 st1b hE4 lenY step4 fq3 notes hj rb01 e1; omega)
    · simp only [List.cons_append, List.length_cons, List.length_append] at st1 ⊢; push_cast at st1 ⊢; (clear hT hga hsg hk hlv hMh hs1 hs2 hn u1 u2 u3 u4 u6 u7 u8 u9 u10 u11 u12 u13 u14 u15 hsr hb01 hb8 m1 m2 m3 m4 v1 v2 v3 v6 v7 v8 v9 v10 v11 v12 v13 v14 v15 h71 g2 hw2 hp1e hF2 u5 hp hMh' v5 hp2e hp2 hQ4 r1 r2 r3 r4 hXm hX3 hQm hQ3 h71' w1 w3 w4 w5 w6 w7 w8 w9 w10 w11 w12 w13 w14 w15 w16 hb3 hMk hc k1 kr kXF hk8 kE k7 hXF4 hQF4 len1 hE4 lenY step4 fq3 notes hj rb01; lia)
  · rw [List.cons_append, List.append_assoc, hp1e]; exact hQ4
  · simp only [List.length_cons, List.length_append]; push_cast; (clear hT hga hsg hk hlv h12 hMh hs1 hs2 hn u1 u2 u3 u4 u6 u8 u9 u10 u11 u12 u13 u14 u15 hsr hb01 hb8 m1 m2 m3 m4 v1 v2 v3 v6 v8 v9 v10 v11 v12 v13 v14 v15 h71 g2 hw2 hp1e hF2 u5 hp hMh' v5 hp2e hp2 hQ4 r1 r2 r3 r4 hXm hX3 hQm hQ3 h71' w1 w4 w5 w6 w7 w8 w9 w10 w11 w12 w13 w14 w15 w16 hb3 hMk hc k1 kr kXF hk8 kE k7 hXF4 hQF4 len1 st1 st1b hE4 lenY step4 fq3 notes hj rb01; lia)
  · intro hb hbd
    have nn := (notes hb).2.2.1 hbd
    rw [if_neg (by (clear hT hga hsg hk hlv h12 hMh hs1 hs2 hn u1 u2 u3 u4 u6 u7 u8 u9 u10 u11 u12 u13 u14 u15 hsr hb01 hb8 m1 m2 m3 m4 v1 v2 v3 v6 v7 v8 v9 v10 v11 v12 v13 v14 v15 h71 g2 hw2 hp1e hF2 u5 hp hMh' v5 hp2e hp2 hQ4 r1 r2 r3 r4 hXm hX3 hQm hQ3 h71' w1 w3 w4 w5 w6 w7 w10 w11 w12 w13 w14 w15 w16 hb3 hMk hc k1 kr kXF kE k7 hXF4 hQF4 len1 st1 st1b hE4 lenY step4 fq3 notes hj rb01 hbd nn; lia)), u10 hb nn.2.2.1, v10 hb nn.2.2.2.1]
    show xo9_ sgn :: (er_ _ l2 ++ er_ Mq l1) = en_1 Mq (sgn, 0) ++ er_ Mq (l2 ++ l1)
    rw [en_op hsr.1, er_app, er_c hQm]; rfl
  · rw [pX_1]; rcases m4 with h | h <;> (clear hT hga hsg hk hlv h12 hMh hs1 hs2 hn u1 u2 u3 u4 u6 u7 u8 u9 u10 u11 u13 u14 u15 hsr hb01 hb8 m1 m2 m3 v1 v2 v3 v6 v7 v8 v9 v10 v11 v13 v14 v15 h71 g2 hw2 hp1e hF2 u5 hp hMh' v5 hp2e hp2 hQ4 r1 r2 r3 r4 hXm hX3 hQm hQ3 h71' w1 w4 w5 w6 w7 w8 w9 w10 w11 w12 w13 w14 w15 w16 hb3 hMk hc k1 kr kXF hk8 kE hXF4 hQF4 len1 st1 st1b hE4 lenY step4 fq3 notes hj rb01; lia)
  · rw [pX_1]; rcases m4 with h | h <;> (clear hT hga hsg hk hlv h12 hMh hs1 hs2 hn u1 u2 u3 u4 u6 u7 u8 u9 u10 u11 u12 u14 u15 hsr hb01 hb8 m1 m2 m3 v1 v2 v3 v6 v7 v8 v9 v10 v11 v12 v14 v15 h71 g2 hw2 hp1e hF2 u5 hp hMh' v5 hp2e hp2 hQ4 r1 r2 r3 r4 hXm hX3 hQm hQ3 h71' w1 w3 w4 w5 w6 w7 w8 w9 w10 w11 w12 w13 w14 w15 w16 hb3 hMk hc k1 kr kXF hk8 kE hXF4 hQF4 len1 st1 st1b hE4 lenY step4 fq3 notes hj rb01; lia)
  · intro hb
    have nn := notes hb
    rw [hb] at r4
    refine ⟨fun hbd => ?_, fun hbd => ?_⟩
    · have n2' := nn.2.2.1 hbd
      refine ⟨rfl, by split <;> (clear hT hga hsg hk hlv h12 hMh hs1 hs2 hn u1 u2 u3 u4 u6 u7 u8 u9 u10 u11 u12 u13 u14 u15 hsr hb01 hb8 m1 m2 m3 m4 v1 v2 v3 v6 v7 v8 v9 v10 v11 v12 v13 v14 v15 h71 g2 hw2 hp1e hF2 u5 hp hMh' v5 hp2e hp2 hQ4 r1 r2 r3 r4 hXm hX3 hQm hQ3 h71' w1 w3 w4 w5 w6 w7 w8 w9 w10 w11 w12 w13 w14 w15 w16 hb3 hMk hc k1 kr kXF hk8 kE k7 hXF4 hQF4 len1 st1 st1b hE4 lenY step4 fq3 notes hj rb01 hb nn hbd n2'; lia), by split <;> (clear hT hga hsg hk hlv h12 hMh hs1 hs2 hn u1 u2 u3 u4 u6 u7 u8 u9 u10 u11 u12 u13 u14 u15 hsr hb01 hb8 m1 m2 m3 m4 v1 v2 v3 v6 v7 v8 v9 v10 v11 v12 v13 v14 v15 h71 g2 hw2 hp1e hF2 u5 hp hMh' v5 hp2e hp2 hQ4 r1 r2 r3 r4 hXm hX3 hQm hQ3 h71' w1 w3 w4 w5 w6 w7 w8 w9 w10 w11 w12 w13 w14 w15 w16 hb3 hMk hc k1 kr kXF hk8 kE k7 hXF4 hQF4 len1 st1 st1b hE4 lenY step4 fq3 notes hj rb01 hb nn hbd n2'; omega), by rw [pX_1]; exact n2'.2.1, ?_⟩
      rw [r4, n2'.1, fq3 hb n2'.2.2.2.1, ((u14 hb).1 n2'.2.2.1).2.2.2.2]
    · have n3 := nn.2.2.2.1 hbd
      have e13 : Mq4 6 13 = (rq_ 1 (fqq_ Mq3) sgn (t1, p1, bd1) (t2, p2, bd2)).1 := congrArg Prod.fst r4
      have e14 : Mq4 6 14 = (rq_ 1 (fqq_ Mq3) sgn (t1, p1, bd1) (t2, p2, bd2)).2 := congrArg Prod.snd r4
      refine ⟨.inr rfl, by rw [pX_1]; exact n3.1, ?_⟩
      rw [e13, e14]
      have ga3 : gd_ Mx a3 := gd_c (XF_70 hX3 (r := 70) (by decide) (by decide) (by decide)).symm w1
      have hm2 := (hT a3 ga3).2.2.2.2.1 (a1 + 1) g2 (by omega)
      have hm1 := (hT a3 ga3).2.2.2.2.1 a hga (by (clear hT hga hsg hk hlv h12 hMh hs1 hs2 hn u1 u2 u3 u4 u6 u7 u8 u9 u10 u11 u13 u14 u15 hsr hb01 hb8 m1 m2 m3 m4 v1 v2 v3 v6 v7 v8 v9 v10 v11 v13 v14 v15 h71 g2 hw2 hp1e hF2 u5 hp hMh' v5 hp2e hp2 hQ4 r1 r2 r3 r4 hXm hX3 hQm hQ3 h71' w1 w4 w5 w6 w7 w8 w9 w10 w11 w12 w13 w14 w15 w16 hb3 hMk hc k1 kr kXF hk8 kE hXF4 hQF4 len1 st1 st1b hE4 lenY step4 fq3 notes hj rb01 hb hbd e13 e14 ga3 hm2; omega))
      rw [hp2e] at hm2
      rw [hp1e] at hm1
      rcases n3.2 with h | h | h
      · have := ((v14 hb).2 h.1).2.2
        rw [h71] at this
        have h9 := h.2
        have h8 : kk_ (fqq_ Mq3).1 (fqq_ Mq3).2 < 8 * Mx 71 a3 := this
        exact Int.lt_of_le_of_lt h9 h8
      · exact Int.lt_of_le_of_lt h (by (clear hT hga hsg hk hlv h12 hMh hs1 hs2 hn u1 u2 u3 u4 u6 u7 u8 u9 u10 u11 u12 u13 u14 u15 hsr hb01 hb8 m1 m2 m3 m4 v1 v2 v3 v6 v7 v8 v9 v10 v11 v12 v13 v14 v15 h71 g2 hw2 hp1e hF2 u5 hp hMh' v5 hp2e hp2 hQ4 r1 r2 r3 r4 hXm hX3 hQm hQ3 h71' w1 w3 w4 w5 w6 w7 w8 w9 w10 w11 w12 w13 w14 w15 w16 hb3 hMk hc k1 kr kXF hk8 kE k7 hXF4 hQF4 len1 st1 st1b hE4 lenY step4 fq3 notes hj rb01 hb nn hbd n3 e13 e14 ga3 hm1 h; lia))
      · exact Int.lt_of_le_of_lt h (by (clear hT hga hsg hk hlv h12 hMh hs1 hs2 hn u1 u2 u3 u4 u6 u7 u8 u9 u10 u11 u12 u13 u14 u15 hsr hb01 hb8 m1 m2 m3 m4 v1 v2 v3 v6 v7 v8 v9 v10 v11 v12 v13 v14 v15 h71 g2 hw2 hp1e hF2 u5 hp hMh' v5 hp2e hp2 hQ4 r1 r2 r3 r4 hXm hX3 hQm hQ3 h71' w1 w3 w4 w5 w6 w7 w8 w9 w10 w11 w12 w13 w14 w15 w16 hb3 hMk hc k1 kr kXF hk8 kE k7 hXF4 hQF4 len1 st1 st1b hE4 lenY step4 fq3 notes hj rb01 hb nn hbd n3 e13 e14 ga3 hm2 h; lia))
  · intro hb hbd st D hD
    have nn := (notes hb).2.2.1 hbd
    have hneed := hn hb nn.2.2.1 nn.2.2.2.1 nn.2.2.2.2
    have ta := u15 hb nn.2.2.1 st D (by (clear hT hga hsg hk hlv h12 hMh hs1 hs2 hn u1 u2 u3 u4 u6 u7 u8 u9 u10 u11 u12 u13 u14 u15 hsr hb01 hb8 m1 m2 m3 m4 v1 v2 v3 v6 v7 v8 v9 v10 v11 v12 v13 v14 v15 h71 g2 hw2 hp1e hF2 u5 hp hMh' v5 hp2e hp2 hQ4 r1 r2 r3 r4 hXm hX3 hQm hQ3 h71' w1 w3 w4 w5 w6 w7 w8 w9 w10 w11 w12 w13 w14 w15 w16 hb3 hMk hc k1 kr kXF hk8 kE k7 hXF4 hQF4 len1 st1 st1b hE4 lenY step4 fq3 notes hj rb01 hb hbd nn; lia))
    have tb := ty_c hQm l2 _ _ (v15 hb nn.2.2.2.1 (t1 :: st) D (by simp only [List.length_cons]; push_cast; (clear hT hga hsg hk hlv h12 hMh hs1 hs2 hn u1 u2 u3 u4 u6 u7 u8 u9 u10 u11 u12 u13 u14 u15 hsr hb01 hb8 m1 m2 m3 m4 v1 v2 v3 v6 v7 v8 v9 v10 v11 v12 v13 v14 v15 h71 g2 hw2 hp1e hF2 u5 hp hMh' v5 hp2e hp2 hQ4 r1 r2 r3 r4 hXm hX3 hQm hQ3 h71' w1 w3 w4 w5 w6 w7 w8 w9 w10 w11 w12 w13 w14 w15 w16 hb3 hMk hc k1 kr kXF hk8 kE k7 hXF4 hQF4 len1 st1 st1b hE4 lenY step4 fq3 notes hj rb01 hb hbd nn ta; lia)))
    refine ⟨t2 :: t1 :: st, ty_app l2 l1 _ _ _ ta tb, ts_op hsr.1 hsr.2 nn.2.2.2.2, ?_⟩
    have hl1 : ∀ (l : List (Int × Int)) (s s' : List Int), ty_ Mq D l s s' → l ≠ [] → (s'.length : Int) ≤ D := by
      intro l s s' h hne
      cases l with
      | nil => exact absurd rfl hne
      | cons x t => obtain ⟨_, _, _, h3⟩ := h; exact h3
    have h2l : l2 ≠ [] := by
      intro e
      rw [e] at tb
      have h9 : t2 :: t1 :: st = t1 :: st := tb
      have := congrArg List.length h9
      simp only [List.length_cons] at this
      (clear hT hga hsg hk hlv h12 hMh hs1 hs2 hn u1 u2 u3 u4 u6 u7 u8 u9 u10 u11 u12 u13 u14 u15 hsr hb01 hb8 m1 m2 m3 m4 v1 v2 v3 v6 v7 v8 v9 v10 v11 v12 v13 v14 v15 h71 g2 hw2 hp1e hF2 u5 hp hMh' v5 hp2e hp2 hQ4 r1 r2 r3 r4 hXm hX3 hQm hQ3 h71' w1 w3 w4 w5 w6 w7 w8 w9 w10 w11 w12 w13 w14 w15 w16 hb3 hMk hc k1 kr kXF hk8 kE k7 hXF4 hQF4 len1 st1 st1b hE4 lenY step4 fq3 notes hj rb01 hb hbd hD nn hneed ta tb hl1 e h9; omega)
    have := hl1 l2 _ _ tb h2l
    simp only [List.length_cons] at this ⊢
    push_cast at this ⊢
    (clear hT hga hsg hk hlv h12 hMh hs1 hs2 hn u1 u2 u3 u4 u6 u7 u8 u9 u10 u11 u12 u13 u14 u15 hsr hb01 hb8 m1 m2 m3 m4 v1 v2 v3 v6 v7 v8 v9 v10 v11 v12 v13 v14 v15 h71 g2 hw2 hp1e hF2 u5 hp hMh' v5 hp2e hp2 hQ4 r1 r2 r3 r4 hXm hX3 hQm hQ3 h71' w1 w3 w4 w5 w6 w7 w8 w9 w10 w11 w12 w13 w14 w15 w16 hb3 hMk hc k1 kr kXF hk8 kE k7 hXF4 hQF4 len1 st1 st1b hE4 lenY step4 fq3 notes hj rb01 hb hbd hD nn hneed ta tb hl1 h2l; omega)
end EB
end T71_er
section T72_er
/-- Q's fault lies where X's lies; X's notes have room -/
def P14 [Inhabited gh_] (Mx' M' : mm_) : Prop := M' 6 14 = Mx' 1 5 ∧ 0 ≤ Mx' 1 7 ∧ Mx' 1 7 ≤ 1000001000 - (gg_ : Int)
/-! the loops over signs: what is asked, what is had, one round -/
/-- both are ahead of an e, or of a part of one -/
def PR [Inhabited gh_] (b F : Int) (Mx Mq : mm_) (a o : Int) (sg : List (Int × Int)) (ws : List (Int × Int × Int)) (c : Int) (cm : List Int) (f : Int) (fm : List (Int × Int)) (cc : Int) (cd : List Int) : Prop :=
  Tks Mx Mq ∧ VT Mx Mq ∧ ER b F Mx Mq a o ∧ QE Mq sg ws (c :: cm) f fm ∧ XE Mx cc cd ∧ LI sg ws c cm f fm a o
/-- within Q's loop: from M to M', has it an operand or not -/
def Rq (dq : Nat) (h : Int) (M : mm_) (h' : Int) (M' : mm_) : Prop := ∀ (V : vv_) (Qr : qr_) (Qt : qt_), Cl_ wd0 (Tr_ wd0 pg0 (dq + 10)) V Qr Qt m_271 → Wk_ V → V 26 [rr 6, ii h', ii 1, none] [] M' → V 26 [rr 6, ii h, ii 1, none] [] M
theorem Rq_tr [Inhabited gh_] {dq : Nat} {h h1 h2 : Int} {M M1 M2 : mm_} (a : Rq dq h M h1 M1) (b : Rq dq h1 M1 h2 M2) : Rq dq h M h2 M2 := fun V Qr Qt hV hW q => a V Qr Qt hV hW (b V Qr Qt hV hW q)
/-- X throws, Q stops with the same fault -/
def XW [Inhabited gh_] (dq : Nat) (h : Int) (Mx Mq Mx' : mm_) : Prop := XF Mx Mx' ∧ ∀ (V : vv_) (Qr : qr_) (Qt : qt_), Cl_ wd0 (Tr_ wd0 pg0 (dq + 10)) V Qr Qt m_271 → Wk_ V → (∀ (Mq' : mm_) (x1 x2 : Int), sp_ Mq' → in9_ Mq' → Mq' 6 13 = Mx' 1 4 → P14 Mx' Mq' → QF Mq Mq' → V 142 [rr 6, ii x1, ii x2, none] [] Mq') → V 26 [rr 6, ii h, ii 1, none] [] Mq
theorem XW_tr [Inhabited gh_] {dq : Nat} {h h' : Int} {Mx Mq Mx1 Mq1 Mx' : mm_} (hx : XF Mx Mx1) (hq : QF Mq Mq1) (hr : Rq dq h Mq h' Mq1) (hw : XW dq h' Mx1 Mq1 Mx') : XW dq h Mx Mq Mx' := by
  obtain ⟨a, k⟩ := hw
  exact ⟨XF_tr hx a, fun V Qr Qt hV hW q => hr V Qr Qt hV hW (k V Qr Qt hV hW (fun Mq' x1 x2 h1 h2 h3 h4 h5 => q Mq' x1 x2 h1 h2 h3 h4 (QF_tr hq h5)))⟩
/-- Q has read a part; signs that bind so strongly, or more, may wait -/
def QB (dq : Nat) (lev b : Int) (Mq Mq' Ms : mm_) (a' : Int) (sg : List (Int × Int)) (c' : Int) (cm : List Int) (f : Int) : Prop :=
  Rq dq 0 Mq 1 Mq' ∧ Red (dq + 8) lev Mq' Ms ∧ ∃ (pend : List (Int × Int)) (wsP : List (Int × Int × Int)) (fmP : List (Int × Int)), QE Mq' (pend ++ sg) wsP (c' :: cm) f fmP ∧ (∀ x, x ∈ pend → 20 ≤ x.1) ∧ ((pend ++ sg).length : Int) ≤ a' ∧ Mq' 6 12 = a' ∧ Mq' 6 16 = b ∧ (b = 0 → Mq' 6 13 = 0) ∧ QF Mq Mq'
theorem nb_pend [Inhabited gh_] : ∀ (pend sg : List (Int × Int)), (∀ x, x ∈ pend → 20 ≤ x.1) → nb_ (pend ++ sg) = nb_ sg ∧ cb_ (pend ++ sg) = cb_ sg
  | [], _, _ => ⟨rfl, rfl⟩
  | x :: t, sg, h => by
    have hx := h x List.mem_cons_self
    have ih := nb_pend t sg (fun y hy => h y (List.mem_cons_of_mem _ hy))
    constructor
    · show (if x.1 = 1 ∨ x.1 = 2 then 1 else 0) + nb_ (t ++ sg) = _
      rw [if_neg (by omega), ih.1, Nat.zero_add]
    · show (if x.1 = 1 then 241 else if x.1 = 2 then 293 else cb_ (t ++ sg)) = _
      rw [if_neg (by omega), if_neg (by omega)]; exact ih.2
theorem cb_r [Inhabited gh_] : ∀ sg : List (Int × Int), cb_ sg = -1 ∨ cb_ sg = 241 ∨ cb_ sg = 293
  | [] => .inl rfl
  | x :: t => by
    show (if x.1 = 1 then 241 else if x.1 = 2 then 293 else cb_ t) = -1 ∨ (if x.1 = 1 then 241 else if x.1 = 2 then 293 else cb_ t) = 241 ∨ (if x.1 = 1 then 241 else if x.1 = 2 then 293 else cb_ t) = 293
    split
    · exact .inr (.inl rfl)
    · split
      · exact .inr (.inr rfl)
      · exact cb_r t
theorem lv_r [Inhabited gh_] {k : Int} : 0 ≤ lv_ k ∧ lv_ k ≤ 5 := by
  unfold lv_; repeat' split
  all_goals omega
theorem lv_cb [Inhabited gh_] {k : Int} {sg : List (Int × Int)} (h : lv_ k ≠ 0) (hk : 0 ≤ k) : k ≠ cb_ sg := by
  intro e
  rcases cb_r sg with h1 | h1 | h1
  · omega
  · rw [h1] at e; rw [e] at h; exact h (by decide)
  · rw [h1] at e; rw [e] at h; exact h (by decide)
theorem lo_sh [Inhabited gh_] {k : Int} (h : lv_ k ≠ 0) : lo9_ (sh_ k) = lv_ k := by
  have hlv : k = 43 ∨ k = 42 ∨ k = 261 ∨ k = 111 ∨ k = 260 ∨ k = 112 ∨ k = 262 ∨ k = 113 ∨ k = 243 ∨ k = 245 ∨ k = 242 ∨ k = 247 ∨ k = 237 := by
    refine Classical.byContradiction fun h9 => h ?_
    unfold lv_
    rw [if_neg (by (clear h; lia)), if_neg (by (clear h; lia)), if_neg (by (clear h; lia)), if_neg (by (clear h; lia)), if_neg (by (clear h; lia))]
  rcases hlv with e | e | e | e | e | e | e | e | e | e | e | e | e <;> (rw [e]; decide)
theorem Cl_dn [Inhabited gh_] {d : Nat} {V : vv_} {Qr : qr_} {Qt : qt_} {m : md_} (h : Cl_ wd0 (Tr_ wd0 pg0 (d + 1)) V Qr Qt m) : Cl_ wd0 (Tr_ wd0 pg0 d) V Qr Qt m := fun pc ls st M hs => h pc ls st M (by
  unfold st_ at hs ⊢
  split at hs
  · exact ex_monoD (Tr_up d) hs
  · exact hs.elim)
theorem Red_up [Inhabited gh_] {d : Nat} {lev : Int} {M M' : mm_} (h : Red d lev M M') : Red (d + 1) lev M M' := fun a1 a2 c1 c2 V Qr Qt hV hW q => h a1 a2 c1 c2 V Qr Qt (Cl_dn hV) hW q
section RO
variable {dq : Nat} {need lev b F : Int} {Mx Mq Mx1 Mq1 Ms : mm_} {a a1 o : Int} {sg : List (Int × Int)} {ws : List (Int × Int × Int)} {c1 : Int} {cm : List Int} {f : Int} {fm : List (Int × Int)} {cc : Int} {cd y1 : List Int} {s1 t1 bd1 k : Int} {l1 : List (Int × Int)}
/-- kinds of tokens in Q's memory -/
theorem KQ_at [Inhabited gh_] (hT : Tks Mx Mq) {Mx' Mq' : mm_} (hx : XF Mx Mx') (hq : QF Mq Mq') (hg : gd_ Mx' a1) : KQ (Mx 70 a1) (Mq' 149 a1) (Mq' 151 a1) := by
  rw [QF_r hq (r := 149) (by decide) (by decide), QF_r hq (r := 151) (by decide) (by decide)]
  exact (hT a1 (gd_c (XF_70 hx (r := 70) (by decide) (by decide) (by decide)).symm hg)).1
theorem kq_0 [Inhabited gh_] {k t v : Int} (h : KQ k t v) : 0 ≤ k := by unfold KQ at h; omega
/-- Q goes over a sign -/
theorem QB_sign [Inhabited gh_] (hT : Tks Mx Mq) (hP : EP need b F Mx Mq Mx1 Ms a a1 o sg ws c1 cm f fm cc cd y1 s1 t1 bd1 l1) (hQ : QB dq lev b Mq Mq1 Ms a1 sg c1 cm f) (hcm : cm.length = nb_ sg) (hco : (cm.length : Int) ≤ o) (hk : Mx 70 a1 = k) (hlv : lv_ k ≠ 0) (hlev : lv_ k ≤ lev) (htl : tl_ sg < lv_ k) (h12 : a1 < 1200) (hc3 : lv_ k = 3 → c1 = 0) (hc01 : c1 = 0 ∨ c1 = 1) (hsa : (sg.length : Int) ≤ a) :
    Rq dq 0 Mq 0 (mi_ Ms cm.length (cn_ (lv_ k) c1) (sh_ k) a1) := by
  obtain ⟨hr, hR, pend, wsP, fmP, hE, hpe, hlen, h12', h16, h13, hQF⟩ := hQ
  obtain ⟨u1, u2, u3, u4, u5, u6, u7, u8, u9, u10, u11⟩ := hP
  have ha0 : 0 ≤ a1 := u4.1.1
  have hKQ : KQ k (Mq1 149 a1) (Mq1 151 a1) := by rw [← hk]; exact KQ_at hT u2 hQF u4.1
  have hKQs : KQ k (Ms 149 a1) (Ms 151 a1) := by rw [← hk]; exact KQ_at hT u2 u3 u4.1
  have hg1 : go_ Mq1 := by
    unfold go_; rw [h16]
    rcases u4.2.2.2.2.2.2.2.2.1 with h | h
    · left; rw [h13 h]; omega
    · right; (clear hT hcm hco hk hlv hlev htl h12 hc3 hc01 hsa hr hR hE hpe hlen h12' h16 h13 hQF u1 u2 u3 u4 u5 u6 u7 u8 u9 u10 u11 ha0 hKQ hKQs; lia)
  have hgs : go_ Ms := by
    unfold go_; rw [u4.2.2.2.2.2.2.2.1]
    rcases u4.2.2.2.2.2.2.2.2.1 with h | h
    · left; rw [u4.2.2.2.2.2.2.2.2.2.1 h]; omega
    · right; omega
  have hnp := nb_pend pend sg hpe
  have e118 : Mq1 6 118 = (cm.length : Int) := by have := hE.2.2.2.2.1; simp only [List.length_cons] at this; push_cast at this; (clear hT hco hk hlv hlev htl h12 hc3 hc01 hsa hr hR hE hpe hlen h12' h16 h13 hQF u1 u2 u3 u4 u5 u6 u7 u8 u9 u10 u11 ha0 hKQ hKQs hg1 hgs; lia)
  have hcm13 : (cm.length : Int) ≤ 12 := by have := u4.2.2.2.2.2.1.2; (clear hT hk hlv hlev htl h12 hc3 hc01 hsa hr hR hE hpe hlen h12' h16 h13 hQF u1 u2 u3 u4 u5 u6 u7 u8 u9 u10 u11 ha0 hKQ hKQs hg1 hgs; omega)
  intro V Qr Qt hV hW q
  refine hr V Qr Qt hV hW ?_
  refine l_271_26n (k := k) (a := a1) hV hW hE (by (clear hT hcm hco hk hlv hlev htl hc3 hc01 hsa hr hR hE hpe h16 h13 hQF u1 u2 u3 u4 u5 u6 u7 u8 u9 u10 u11 hKQ hKQs hg1 hgs hnp e118 hcm13 hV hW q; lia)) (by simp only [List.length_cons]; rw [hnp.1]; omega) hg1 h12' ha0 (by (clear hT hcm hco hk hlv hlev htl hc3 hc01 hsa hr hR hE hpe hlen h16 h13 hQF u1 u2 u3 u4 u5 u6 u7 u8 u9 u10 u11 hKQ hKQs hg1 hgs hnp e118 hcm13 hV hW q; omega)) hKQ (lv_cb hlv (kq_0 hKQ)) ?_
  refine l_271_90b (k := k) (a := a1) hV hW ⟨by (clear hT hcm hco hk hlv hlev htl hc3 hc01 hsa hr hR hE hpe hlen h16 h13 hQF u1 u2 u3 u4 u5 u6 u7 u8 u9 u10 u11 hKQ hKQs hg1 hgs hnp e118 hcm13 hV hW q; lia), by (clear hT hcm hco hk hlv hlev htl hc3 hc01 hsa hr hR hE hpe hlen h16 h13 hQF u1 u2 u3 u4 u5 u6 u7 u8 u9 u10 u11 hKQ hKQs hg1 hgs hnp e118 hcm13 hV hW q; omega)⟩ h12' hKQ hlv (fun h3 => ⟨by (clear hT hco hk hlv hlev htl h12 hc3 hc01 hsa hr hR hE hpe hlen h12' h16 h13 hQF u1 u2 u3 u4 u5 u6 u7 u8 u9 u10 u11 ha0 hKQ hKQs hg1 hgs hV hW q h3; lia), by (clear hT hco hk hlv hlev htl h12 hc3 hc01 hsa hr hR hE hpe hlen h12' h16 h13 hQF u1 u2 u3 u4 u5 u6 u7 u8 u9 u10 u11 ha0 hKQ hKQs hg1 hgs hV hW q h3; omega), ?_⟩) ?_
  · rw [e118]
    have := hE.2.2.2.2.2.1.1
    rw [this]; exact hc3 h3
  · refine q_289 (k := k) (a := a1) (lev := lev) (M1 := Ms) hR hlv hlev u5 (by (clear hT hcm hco hk hlv hlev htl hc3 hc01 hr hR hE hpe hlen h16 h13 hQF u2 u3 u4 u5 u6 u7 u8 u9 u10 u11 hKQ hKQs hg1 hgs hnp e118 hcm13 hV hW q; omega)) (by (clear hT hco hk hlv hlev htl h12 hc3 hc01 hsa hr hR hE hpe hlen h12' h16 h13 hQF u1 u2 u3 u4 u5 u6 u7 u8 u9 u10 u11 ha0 hKQ hKQs hg1 hgs hV hW q; lia)) hc01 htl u4.2.2.1 ha0 h12 hgs hKQs ?_
    exact q
end RO
end T72_er
section T73_er
/-! a step of reducing, with the memory that it leaves -/
def fM_ (M : mm_) (L t b : Int) : mm_ := up_ (up_ (up_ M 6 116 (M 6 116 - 1)) 231 L t) 233 L b
def rM2_ (M : mm_) (s : Int) : mm_ := pu_ (up_ M 6 112 (M 6 112 - 1)) s 0
def rM3_ (M : mm_) (s : Int) (x y : Int × Int × Int) : mm_ := if s = 25 ∨ s = 26 then (if x.2.2 = 0 ∧ y.2.2 = 0 ∧ x.1 ≠ y.1 then nt_ (rM2_ M s) 5 y.2.1 else rM2_ M s) else aM_ (aM_ (rM2_ M s) x (rw_ s)) y (rw_ s)
def rM_ (M : mm_) (s : Int) (x y : Int × Int × Int) (L : Int) : mm_ := fM_ (rM3_ M s x y) L (if s < 25 then 1 else 2) (rb_ s x y)
section QE
variable {d : Nat} {M : mm_} {sg : List (Int × Int)} {ws : List (Int × Int × Int)} {cm : List Int} {f : Int} {fm : List (Int × Int)} {K : Int → mm_ → Prop} {Kv : mm_ → Prop} {Qr : qr_} {Qt : qt_} {V : vv_}
theorem rM3_QE [Inhabited gh_] {s tk : Int} {x y : Int × Int × Int} (hE : QE M ((s, tk) :: sg) (y :: x :: ws) cm f fm) : QE (rM3_ M s x y) sg (y :: x :: ws) cm f ((s, 0) :: fm) := by
  have h2 : QE (rM2_ M s) sg (y :: x :: ws) cm f ((s, 0) :: fm) := pu_QE (pS_QE hE)
  unfold rM3_
  split
  · split
    · exact nt_QE h2
    · exact h2
  · exact aM_QE (aM_QE h2)
theorem rM2_6 [Inhabited gh_] {s i : Int} (h1 : i ≠ 104) (h2 : i ≠ 112) : rM2_ M s 6 i = M 6 i := by unfold rM2_; rw [pu_6 h1, up_off h2]
theorem rM2_QF [Inhabited gh_] {s : Int} : QF M (rM2_ M s) := QF_tr ⟨Fr_up Fr_rf (by decide), fun i _ _ _ _ _ h _ _ => by rw [up_off h]⟩ pu_QF
theorem rM3_QF [Inhabited gh_] {s : Int} {x y : Int × Int × Int} : QF M (rM3_ M s x y) := by
  unfold rM3_
  split
  · split
    · exact QF_tr rM2_QF nt_QF
    · exact rM2_QF
  · exact QF_tr rM2_QF (QF_tr aM_QF aM_QF)
theorem rM3_6 [Inhabited gh_] {s i : Int} {x y : Int × Int × Int} (h1 : i ≠ 104) (h2 : i ≠ 112) (h3 : i ≠ 13) (h4 : i ≠ 14) : rM3_ M s x y 6 i = M 6 i := by
  unfold rM3_
  split
  · split
    · rw [nt_6 h3 h4, rM2_6 h1 h2]
    · exact rM2_6 h1 h2
  · rw [aM_6 h3 h4, aM_6 h3 h4, rM2_6 h1 h2]
theorem rM3_fq [Inhabited gh_] {s : Int} {x y : Int × Int × Int} : fqq_ (rM3_ M s x y) = rq_ (M 6 16) (fqq_ M) s x y := by
  have e2 : fqq_ (rM2_ M s) = fqq_ M := by unfold fqq_; rw [rM2_6 (by decide) (by decide), rM2_6 (by decide) (by decide)]
  unfold rM3_ rq_
  split
  · split
    · rw [nt_fq, e2, rM2_6 (by decide) (by decide)]
    · exact e2
  · rw [aM_fq, aM_fq, e2, aM_6 (by decide) (by decide), rM2_6 (by decide) (by decide)]
theorem fM_6 [Inhabited gh_] {L t b i : Int} (h : i ≠ 116) : fM_ M L t b 6 i = M 6 i := by unfold fM_; rw [up_ne (by decide), up_ne (by decide), up_off h]
theorem fM_QF [Inhabited gh_] {L t b : Int} : QF M (fM_ M L t b) := ⟨Fr_up (Fr_up (Fr_up Fr_rf (by decide)) (by decide)) (by decide), fun i _ _ _ _ _ _ h _ => fM_6 h⟩
theorem fM_QE [Inhabited gh_] {t b : Int} {x y : Int × Int × Int} (hE : QE M sg (y :: x :: ws) cm f fm) : QE (fM_ M ws.length t b) sg ((t, x.2.1, b) :: ws) cm f fm := by
  have h2 := w3_QE (s := t) (p := x.2.1) (b := b) (pW_QE hE) rfl
  have e4 : w3_ (up_ M 6 116 (M 6 116 - 1)) (ws.length : Int) t x.2.1 b = fM_ M ws.length t b := by
    unfold w3_ fM_
    congr 1
    refine up_id' ?_
    rw [up_ne (by decide), up_ne (by decide)]; exact hE.2.2.2.1.2.2.2.2.1
  rw [← e4]; exact h2
theorem rM_Rd [Inhabited gh_] {s L : Int} {x y : Int × Int × Int} : Rd M (rM_ M s x y L) s x y := by
  refine ⟨QF_tr rM3_QF fM_QF, ?_, ?_, ?_⟩
  · unfold rM_; rw [fM_6 (by decide), rM3_6 (by decide) (by decide) (by decide) (by decide)]
  · unfold rM_; rw [fM_6 (by decide), rM3_6 (by decide) (by decide) (by decide) (by decide)]
  · have : fqq_ (rM_ M s x y L) = fqq_ (rM3_ M s x y) := by unfold fqq_ rM_; rw [fM_6 (by decide), fM_6 (by decide)]
    rw [this]; exact rM3_fq
theorem rM_QE [Inhabited gh_] {s tk : Int} {x y : Int × Int × Int} (hE : QE M ((s, tk) :: sg) (y :: x :: ws) cm f fm) : QE (rM_ M s x y ws.length) sg ((if s < 25 then 1 else 2, x.2.1, rb_ s x y) :: ws) cm f ((s, 0) :: fm) := fM_QE (rM3_QE hE)
theorem m_286_218 [Inhabited gh_] (hV : Cl_ wd0 (Tr_ wd0 pg0 (d + 2)) V Qr Qt m_286) (hW : Wk_ V) {a1 a2 s b L tt : Int} (htt : tt = if s < 25 then 1 else 2) (h0 : 0 ≤ L) (hL : L < 1202) (e116 : M 6 116 = L + 2) (hb : b = 0 ∨ b = 1)
    (h : V 11 [rr 6, ii a1, ii a2, none, none, none, none, none, none, none] [] (fM_ M L tt b)) :
    V 218 [rr 6, ii a1, ii a2, ii s, ii (L + 1), ii L, ii b, none, none, none] [] M := by
  refine b_286_218 (Tr_mono _) hV hW a1 a2 s _ _ b M ?_
  have w1 : w32 (M 6 116 - 1) = M 6 116 - 1 := w32_id (by (clear hV hW htt hb h; lia)) (by omega)
  rw [w1]
  split
  · rename_i h1
    rw [if_pos h1] at htt; rw [htt] at h
    exact ⟨by omega, ⟨by omega, hb⟩, h⟩
  · rename_i h1
    rw [if_neg h1] at htt; rw [htt] at h
    exact ⟨by omega, ⟨by (clear hV hW htt hb h h1; lia), hb⟩, h⟩
theorem m_286_11 [Inhabited gh_] (hV : Cl_ wd0 (Tr_ wd0 pg0 (d + 2)) V Qr Qt m_286) (hW : Wk_ V) {a1 a2 s tk : Int} {x y : Int × Int × Int} (hE : QE M ((s, tk) :: sg) (y :: x :: ws) cm f fm) (hl : (ws.length : Int) + 1 < 1202) (hs : (sg.length : Int) < 1240) (hf0 : 0 ≤ f) (hf : f + fm.length < 3000)
    (bx : x.2.2 = 0 ∨ x.2.2 = 1) (bY : y.2.2 = 0 ∨ y.2.2 = 1) (hlev : a2 ≤ lo9_ s)
    (h : V 11 [rr 6, ii a1, ii a2, none, none, none, none, none, none, none] [] (rM_ M s x y ws.length)) :
    V 11 [rr 6, ii a1, ii a2, none, none, none, none, none, none, none] [] M := by
  have e112 : M 6 112 = (sg.length : Int) + 1 := by rw [hE.1]; simp only [List.length_cons]; (clear hV hW hE hl hs hf0 hf bx bY hlev h; lia)
  have e229 : M 229 (sg.length : Int) = s := hE.2.1.1
  refine b_286_11 (Tr_mono _) hV hW a1 a2 M ?_
  have em : M 6 112 - 1 = (sg.length : Int) := by (clear hV hW hE hl hs hf0 hf bx bY hlev h e229; lia)
  rw [if_neg (by (clear hV hW hE hl hf0 hf bx bY hlev h e229 em; omega)), w32_id (by omega) (by omega), em, e229]
  refine ⟨by omega, q_287 ?_⟩
  rw [if_neg (by omega), w32_id (by omega) (by omega), em, e229]
  refine ⟨by omega, ?_⟩
  have hE1 : QE (up_ M 6 112 (sg.length : Int)) sg (y :: x :: ws) cm f fm := by rw [← em]; exact pS_QE hE
  have e104 : (up_ M 6 112 (sg.length : Int)) 6 104 = f + fm.length := hE1.2.2.2.2.2.2.1
  refine q_277 (by (clear hV hW hE hl hs hf bx bY hlev h e112 e229 em hE1; omega)) (by omega) ?_
  have hE2 := pu_QE (x := s) (y := 0) hE1
  have eM2 : pu_ (up_ M 6 112 (sg.length : Int)) s 0 = rM2_ M s := by unfold rM2_; rw [em]
  rw [eM2] at hE2 ⊢
  unfold rM_ rM3_ at h
  generalize htt : (if s < 25 then (1 : Int) else 2) = tt at h
  replace htt := htt.symm
  generalize hM2 : rM2_ M s = M2 at *
  have e116 : M2 6 116 = (ws.length : Int) + 2 := by rw [hE2.2.2.1]; simp only [List.length_cons]; omega
  have w1 : w32 (M2 6 116 - 1) = (ws.length : Int) + 1 := by rw [w32_id (by (clear hV hW hE hs hf0 hf bx bY hlev e112 e229 em hE1 e104 htt hM2 hE2 eM2 h; omega)) (by (clear hV hW hE hs hf0 hf bx bY hlev e112 e229 em hE1 e104 htt hM2 hE2 eM2 h; omega))]; (clear hV hW hE hl hs hf0 hf bx bY hlev e112 e229 em hE1 e104 htt hM2 hE2 eM2 h; lia)
  have w2 : w32 (M2 6 116 - 2) = (ws.length : Int) := by rw [w32_id (by (clear hV hW hE hs hf0 hf bx bY hlev e112 e229 em hE1 e104 htt hM2 hE2 eM2 h; lia)) (by (clear hV hW hE hs hf0 hf bx bY hlev e112 e229 em hE1 e104 htt hM2 hE2 eM2 h; omega))]; (clear hV hW hE hl hs hf0 hf bx bY hlev e112 e229 em hE1 e104 htt hM2 hE2 eM2 h w1; omega)
  rw [w1, w2]
  have ex3 : M2 233 (ws.length : Int) = x.2.2 := hE2.2.2.2.1.2.2.2.2.2.1
  have ey3 : M2 233 ((ws.length : Int) + 1) = y.2.2 := by have := hE2.2.2.2.1.2.2.1; simp only [List.length_cons] at this; exact_mod_cast this
  have ex1 : M2 231 (ws.length : Int) = x.1 := hE2.2.2.2.1.2.2.2.1
  have ey1 : M2 231 ((ws.length : Int) + 1) = y.1 := by have := hE2.2.2.2.1.1; simp only [List.length_cons] at this; exact_mod_cast this
  have ex2 : M2 232 (ws.length : Int) = x.2.1 := hE2.2.2.2.1.2.2.2.2.1
  have ey2 : M2 232 ((ws.length : Int) + 1) = y.2.1 := by have := hE2.2.2.2.1.2.1; simp only [List.length_cons] at this; exact_mod_cast this
  rw [ex3, ey3]
  refine ⟨by (clear hV hW hE hs hf0 hf bx bY hlev e112 e229 em hE1 e104 htt hM2 hE2 eM2 h ex3 ey3 ex1 ey1 ex2 ey2; lia), fun _ => ?_⟩
  have main : ∀ b0 : Int, (b0 = 0 ∨ b0 = 1) → (b0 = 0 ↔ x.2.2 = 0 ∧ y.2.2 = 0) → V 105 [rr 6, ii a1, ii a2, ii s, ii ((ws.length : Int) + 1), ii (ws.length : Int), ii b0, none, none, none] [] M2 := by
    intro b0 hb0 hbe
    refine b_286_105 (Tr_mono _) hV hW a1 a2 s _ _ b0 M2 ?_
    have same : s = 25 ∨ s = 26 → V 117 [rr 6, ii a1, ii a2, ii s, ii ((ws.length : Int) + 1), ii (ws.length : Int), ii b0, none, none, none] [] M2 := by
      intro hs2
      rw [if_pos hs2] at h
      unfold rb_ at h
      rw [if_pos hs2] at h
      refine b_286_117 (Tr_mono _) hV hW a1 a2 s _ _ b0 M2 ?_
      rw [ex1, ey1, ey2]
      by_cases c1 : b0 = 0
      · rw [if_pos c1]
        have c2 := hbe.mp c1
        by_cases c3 : x.1 = y.1
        · rw [if_neg (fun h9 => h9.2.2 c3), if_pos ⟨c2.1, c2.2, c3⟩] at h
          rw [if_pos c3]
          refine ⟨by (clear hV hW hE hs hf0 hf bx bY hlev e112 e229 em hE1 e104 htt hM2 hE2 eM2 h ex3 ey3 ex1 ey1 ex2 ey2 hb0 hbe hs2 c1 c2 c3; lia), by (clear hV hW hE hs hf0 hf bx bY hlev e112 e229 em hE1 e104 htt hM2 hE2 eM2 h ex3 ey3 ex1 ey1 ex2 ey2 hb0 hbe hs2 c1 c2 c3; lia), ?_⟩
          rw [c1]
          exact m_286_218 hV hW htt (by (clear hV hW hE hs hf0 hf bx bY hlev e112 e229 em hE1 e104 htt hM2 hE2 eM2 h ex3 ey3 ex1 ey1 ex2 ey2 hb0 hbe hs2 c1 c2 c3; lia)) (by (clear hV hW hE hs hf0 hf bx bY hlev e112 e229 em hE1 e104 htt hM2 hE2 eM2 h ex3 ey3 ex1 ey1 ex2 ey2 hb0 hbe hs2 c1 c2 c3; omega)) e116 (.inl rfl) h
        · rw [if_pos ⟨c2.1, c2.2, c3⟩, if_neg (fun h9 => c3 h9.2.2)] at h
          rw [if_neg c3]
          refine ⟨by omega, by omega, by omega, q_236 ?_⟩
          exact m_286_218 hV hW htt (by (clear hV hW hE hs hf0 hf bx bY hlev e112 e229 em hE1 e104 htt hM2 hE2 eM2 h ex3 ey3 ex1 ey1 ex2 ey2 hb0 hbe hs2 c1 c2 c3; lia)) (by omega) (by rw [nt_6 (by decide) (by decide)]; exact e116) (.inr rfl) h
      · rw [if_neg c1]
        have c2 : ¬ (x.2.2 = 0 ∧ y.2.2 = 0) := fun h9 => c1 (hbe.mpr h9)
        rw [if_neg (fun h9 => c2 ⟨h9.1, h9.2.1⟩), if_neg (fun h9 => c2 ⟨h9.1, h9.2.1⟩)] at h
        have e : b0 = 1 := by (clear hV hW hE hl hs hf0 hf bx bY hlev e112 e229 em hE1 e104 htt hM2 hE2 eM2 h e116 w1 w2 ex3 ey3 ex1 ey1 ex2 ey2; lia)
        rw [e]
        exact m_286_218 hV hW htt (by omega) (by omega) e116 (.inr rfl) h
    have other : ¬ (s = 25 ∨ s = 26) → V 176 [rr 6, ii a1, ii a2, ii s, ii ((ws.length : Int) + 1), ii (ws.length : Int), ii b0, ii (rw_ s), none, none] [] M2 := by
      intro hs2
      rw [if_neg hs2] at h
      unfold rb_ at h
      rw [if_neg hs2] at h
      refine b_286_176 (Tr_mono _) hV hW a1 a2 s _ _ b0 _ M2 ?_
      refine q_280 (x := x) (by (clear hV hW hE hs hf0 hf bx bY hlev e112 e229 em hE1 e104 htt hM2 hE2 eM2 h ex3 ey3 ex1 ey1 ex2 ey2 hb0 hbe same hs2; lia)) (by (clear hV hW hE hs hf0 hf bx bY hlev e112 e229 em hE1 e104 htt hM2 hE2 eM2 h ex3 ey3 ex1 ey1 ex2 ey2 hb0 hbe same hs2; lia)) ex1 ex2 ex3 ?_
      refine q_280 (x := y) (by (clear hV hW hE hs hf0 hf bx bY hlev e112 e229 em hE1 e104 htt hM2 hE2 eM2 h ex3 ey3 ex1 ey1 ex2 ey2 hb0 hbe same hs2; lia)) (by omega) (by rw [aM_r (by decide)]; exact ey1) (by rw [aM_r (by decide)]; exact ey2) (by rw [aM_r (by decide)]; exact ey3) ?_
      have e116' : aM_ (aM_ M2 x (rw_ s)) y (rw_ s) 6 116 = (ws.length : Int) + 2 := by rw [aM_6 (by decide) (by decide), aM_6 (by decide) (by decide)]; exact e116
      have fin : ∀ (b : Int), (b = 0 ∨ b = 1) → b = (if x.2.2 = 0 ∧ y.2.2 = 0 ∧ x.1 = rw_ s ∧ y.1 = rw_ s then 0 else 1) → V 218 [rr 6, ii a1, ii a2, ii s, ii ((ws.length : Int) + 1), ii (ws.length : Int), ii b, none, none, none] [] (aM_ (aM_ M2 x (rw_ s)) y (rw_ s)) := by
        intro b hb h8
        rw [← h8] at h
        exact m_286_218 hV hW htt (by (clear hV hW hE hs hf0 hf bx bY hlev e112 e229 em hE1 e104 htt hM2 hE2 eM2 ex3 ey3 ex1 ey1 ex2 ey2 hb0 hbe same hs2 h hb h8; lia)) (by (clear hV hW hE hs hf0 hf bx bY hlev e112 e229 em hE1 e104 htt hM2 hE2 eM2 ex3 ey3 ex1 ey1 ex2 ey2 hb0 hbe same hs2 h hb h8; lia)) e116' hb h
      by_cases c1 : b0 = 0
      · rw [if_pos c1]
        have c2 := hbe.mp c1
        by_cases c3 : ab_ x (rw_ s) = 0
        · rw [if_pos c3]
          have c3' : x.1 = rw_ s := by unfold ab_ at c3; split at c3; (clear hV hW hE hl hs hf0 hf bx bY hlev e112 e229 em hE1 e104 htt hM2 hE2 eM2 h e116 w1 w2 ex3 ey3 ex1 ey1 ex2 ey2 hb0 hbe same hs2 e116' fin c1 c2; lia); rename_i h9; exact Classical.byContradiction fun h8 => h9 ⟨c2.1, h8⟩
          by_cases c4 : ab_ y (rw_ s) = 0
          · rw [if_pos c4]
            have c4' : y.1 = rw_ s := by unfold ab_ at c4; split at c4; omega; rename_i h9; exact Classical.byContradiction fun h8 => h9 ⟨c2.2, h8⟩
            refine fin 0 (.inl rfl) ?_
            rw [if_pos ⟨c2.1, c2.2, c3', c4'⟩]
          · rw [if_neg c4]
            refine fin 1 (.inr rfl) ?_
            rw [if_neg]
            intro h9; apply c4; unfold ab_; rw [if_neg]; intro h8; exact h8.2 h9.2.2.2
        · rw [if_neg c3]
          refine fin 1 (.inr rfl) ?_
          rw [if_neg]
          intro h9; apply c3; unfold ab_; rw [if_neg]; intro h8; exact h8.2 h9.2.2.1
      · rw [if_neg c1]
        refine fin 1 (.inr rfl) ?_
        rw [if_neg]
        intro h9; exact c1 (hbe.mpr ⟨h9.1, h9.2.1⟩)
    by_cases g1 : s = 25
    · rw [if_pos g1]; exact same (.inl g1)
    · rw [if_neg g1]
      by_cases g2 : s = 26
      · rw [if_pos g2]; exact same (.inr g2)
      · rw [if_neg g2]
        have o := other (by (clear hV hW hE hl hs hf0 hf bx bY hlev e112 e229 em hE1 e104 htt hM2 hE2 eM2 h e116 w1 w2 ex3 ey3 ex1 ey1 ex2 ey2 hb0 hbe same other; lia))
        by_cases g3 : s = 31
        · rw [if_pos g3]
          have : rw_ s = 2 := by unfold rw_; rw [if_pos (.inl g3)]
          rw [this] at o; exact o
        · rw [if_neg g3]
          by_cases g4 : s = 32
          · rw [if_pos g4]
            have : rw_ s = 2 := by unfold rw_; rw [if_pos (.inr g4)]
            rw [this] at o; exact o
          · rw [if_neg g4]
            have : rw_ s = 1 := by unfold rw_; rw [if_neg (by (clear hV hW hE hl hs hf0 hf bx bY hlev e112 e229 em hE1 e104 htt hM2 hE2 eM2 h e116 w1 w2 ex3 ey3 ex1 ey1 ex2 ey2 hb0 hbe same other g1 g2 o; lia))]
            rw [this] at o; exact o
  by_cases c1 : x.2.2 = 0
  · rw [if_pos c1]
    refine ⟨by (clear hV hW hE hs hf0 hf bx bY hlev e112 e229 em hE1 e104 htt hM2 hE2 eM2 h ex3 ey3 ex1 ey1 ex2 ey2 main c1; lia), fun _ => ?_⟩
    by_cases c2 : y.2.2 = 0
    · rw [if_pos c2]; exact main 0 (.inl rfl) ⟨fun _ => ⟨c1, c2⟩, fun _ => rfl⟩
    · rw [if_neg c2]; exact main 1 (.inr rfl) ⟨fun h9 => absurd h9 (by decide), fun h9 => absurd h9.2 c2⟩
  · rw [if_neg c1]; exact main 1 (.inr rfl) ⟨fun h9 => absurd h9 (by decide), fun h9 => absurd h9.1 c1⟩
end QE
end T73_er
section T74_er
/-! one round over a sign: no room; ahead of the right part; behind it -/
section RO
variable {dq d : Nat} {need lev b F : Int} {M Mx Mq Mx1 Mq1 Ms : mm_} {a a1 o : Int} {sg : List (Int × Int)} {ws : List (Int × Int × Int)} {c1 : Int} {cm : List Int} {f : Int} {fm : List (Int × Int)} {cc : Int} {cd y1 : List Int} {s1 t1 bd1 k : Int} {l1 : List (Int × Int)} {Kv : mm_ → Prop} {Qr : qr_} {Qt : qt_} {V : vv_}
theorem q_289r [Inhabited gh_] {c : Int} {M1 : mm_} (hr : Red (d + 1) lev M M1) (hlv : lv_ k ≠ 0) (hx : lv_ k ≤ lev) (hE : QE M1 sg ws (c :: cm) f fm) (hs : (sg.length : Int) < 1240) (hcm : (cm.length : Int) < 40) (hc : c = 0 ∨ c = 1) (ht : tl_ sg < lv_ k) (ha : M1 6 12 = 1200) (hg : ok_ M1) (hk : KQ k (M1 149 1200) (M1 151 1200))
    (h : Kv (bf_ (ho_ (up_ M1 234 (cm.length : Int) (cn_ (lv_ k) c)) (sh_ k) 1200) 2 (M1 150 1200))) : Tr_ wd0 pg0 (d + 3) 289 [.inr (.inr 6), .inl (lv_ k)] M (rv_ Kv) Qt := t_289 fun V hV hW => b_289_0 (Tr_mono _) hV hW (lv_ k) M (by
  have hr1 : 1 ≤ lv_ k := by have := lv_r (k := k); (clear hr hx hE hs hcm ht ha hg hk h hV hW; lia)
  refine q_286 hr (by omega) hx hE (by (clear hr hlv hx hE hcm hc ht ha hg hk h hV hW hr1; lia)) (.inl ht) ?_
  have e118 : M1 6 118 = (cm.length : Int) := by have := hE.2.2.2.2.1; simp only [List.length_cons] at this; push_cast at this; (clear hr hlv hx hE hs hcm hc ht ha hg hk h hV hW hr1; omega)
  have e234 : M1 234 (cm.length : Int) = c := hE.2.2.2.2.2.1.1
  have e112 : M1 6 112 = (sg.length : Int) := hE.1
  rw [e118, e234]
  have fin : ∀ v : Int, v = cn_ (lv_ k) c → Tr_ wd0 pg0 (d + 2) 290 [.inr (.inr 6)] (up_ M1 234 (cm.length : Int) v) (ri_ fun v1 M2 => Tr_ wd0 pg0 (d + 2) 273 [.inr (.inr 6), .inl v1, .inl (M2 6 12)] M2 (rv_ fun M3 => Tr_ wd0 pg0 (d + 2) 230 [.inr (.inr 6)] M3 (rv_ fun M4 => rv_ Kv [] M4) Qt) Qt) Qt := by
    intro v hv
    subst hv
    refine q_290 (k := k) ⟨by rw [up_ne (by decide)]; omega, by rw [up_ne (by decide)]; omega⟩ (by rw [up_ne (by decide), up_ne (by decide), up_ne (by decide), ha]; exact hk) hlv ?_
    refine q_273 (by rw [up_ne (by decide)]; (clear hr hlv hx hE hcm hc ht ha hg hk h hV hW hr1 e118 e234; lia)) (by rw [up_ne (by decide)]; omega) ?_
    refine q_230r ?_ ?_ ?_
    · unfold ok_; rw [ho_6 (by decide), ho_6 (by decide), up_ne (by decide)]; exact hg
    · rw [ho_6 (by decide), up_ne (by decide)]; exact ha
    · rw [ho_6 (by decide), up_ne (by decide), ha, ho_r (by decide) (by decide) (by decide), up_ne (by decide)]; exact rv_i h
  by_cases c1 : lv_ k = 3
  · rw [if_pos c1]
    refine ⟨⟨by (clear hr hlv hx hE hs hc ht ha hg hk h hV hW hr1 e234 e112 fin c1; lia), .inr rfl⟩, fin 1 ?_⟩
    unfold cn_; rw [if_pos c1]
  · rw [if_neg c1]
    by_cases c2 : lv_ k ≤ 3
    · rw [if_pos c2]
      refine ⟨⟨by omega, .inl rfl⟩, fin 0 ?_⟩
      unfold cn_; rw [if_neg c1, if_pos c2]
    · rw [if_neg c2]
      have ec : c = cn_ (lv_ k) c := by unfold cn_; rw [if_neg c1, if_neg c2]
      refine ⟨by omega, fun _ => ?_⟩
      by_cases c3 : c = 0
      · rw [if_pos c3]
        exact ⟨⟨by omega, .inl rfl⟩, fin 0 (by rw [← ec]; exact c3.symm)⟩
      · rw [if_neg c3]
        exact ⟨⟨by omega, .inr rfl⟩, fin 1 (by rw [← ec]; (clear hr hlv hx hE hs hcm ht ha hg hk h hV hW hr1 e118 e234 e112 fin; lia))⟩)
/-- stopped: the loop is left -/
theorem l_271_st [Inhabited gh_] (hV : Cl_ wd0 (Tr_ wd0 pg0 (d + 1)) V Qr Qt m_271) (hW : Wk_ V) {h g : Int} (hs : sp_ M) (hq : V 142 [rr 6, ii h, ii g, none] [] M) : V 26 [rr 6, ii h, ii g, none] [] M := by
  refine b_271_26 (Tr_mono _) hV hW h g M ?_
  by_cases c : g = 0
  · rw [if_pos c]; exact hq
  · rw [if_neg c]
    refine q_227s hs ?_
    rw [if_neg (by decide)]; exact hq
theorem fl_XF [Inhabited gh_] {k t : Int} : XF M (flX_ M k t) := by
  unfold flX_
  refine ⟨Fr_up (Fr_up Fr_rf (by decide)) (by decide), fun i _ h4 h5 _ _ => by rw [up_off h5, up_off h4], fun i _ => by rw [up_ne (by decide), up_ne (by decide)]⟩
theorem fl_4 [Inhabited gh_] {k t : Int} : flX_ M k t 1 4 = k := by unfold flX_; rw [up_off (by decide), up_at]
theorem fl_5 [Inhabited gh_] {k t : Int} : flX_ M k t 1 5 = M 71 t := by unfold flX_; rw [up_at]
theorem fl_7 [Inhabited gh_] {M : mm_} {k t : Int} : flX_ M k t 1 7 = M 1 7 := by unfold flX_; rw [up_off (by decide), up_off (by decide)]
theorem fl_b7 [Inhabited gh_] {b F : Int} {M N : mm_} {a o k t : Int} (hE : ER b F M N a o) : 0 ≤ flX_ M k t 1 7 ∧ flX_ M k t 1 7 ≤ 1000001000 - (gg_ : Int) := by
  have h0 := hE.2.2.2.2.2.2.2.2.2.2.2.1
  have h1 := hE.2.2.2.2.2.2.2.2.2.2.2.2.1
  have h2 := hE.1.2.1
  rw [fl_7]; omega
theorem bf_QF [Inhabited gh_] {k p : Int} : QF M (bf_ M k p) := ⟨fun r h => bf_ne fun e => h (by rw [e]; decide), fun i _ h1 h2 _ _ _ _ _ => bf_6 h1 h2⟩
/-- Q's place of a token -/
theorem pl_at [Inhabited gh_] (hT : Tks Mx Mq) {Mq' : mm_} (hq : QF Mq Mq') (hg : gd_ Mx a1) : Mq' 150 a1 = Mx 71 a1 := by
  rw [QF_r hq (r := 150) (by decide) (by decide)]; exact ((hT a1 hg).2.1).symm
theorem QB_room [Inhabited gh_] (hT : Tks Mx Mq) (hb : b = 0) (hP : EP need b F Mx Mq Mx1 Ms a a1 o sg ws c1 cm f fm cc cd y1 s1 t1 bd1 l1) (hQ : QB dq lev b Mq Mq1 Ms a1 sg c1 cm f) (hcm : cm.length = nb_ sg) (hco : (cm.length : Int) ≤ o) (hk : Mx 70 a1 = k) (hlv : lv_ k ≠ 0) (hlev : lv_ k ≤ lev) (htl : tl_ sg < lv_ k) (h12 : a1 = 1200) (hc3 : lv_ k = 3 → c1 = 0) (hc01 : c1 = 0 ∨ c1 = 1) (hsa : (sg.length : Int) ≤ a) :
    XW dq 0 Mx Mq (flX_ Mx1 2 a1) := by
  obtain ⟨hr, hR, pend, wsP, fmP, hE, hpe, hlen, h12', h16, h13, hQF⟩ := hQ
  obtain ⟨u1, u2, u3, u4, u5, u6, u7, u8, u9, u10, u11⟩ := hP
  have ha0 : 0 ≤ a1 := u4.1.1
  have hKQ : KQ k (Mq1 149 a1) (Mq1 151 a1) := by rw [← hk]; exact KQ_at hT u2 hQF u4.1
  have hKQs : KQ k (Ms 149 a1) (Ms 151 a1) := by rw [← hk]; exact KQ_at hT u2 u3 u4.1
  have hg1 : go_ Mq1 := .inl (by rw [h13 hb]; (clear hT hb hcm hco hk hlv hlev htl h12 hc3 hc01 hsa hr hR hE hpe hlen h12' h16 h13 hQF u1 u2 u3 u4 u5 u6 u7 u8 u9 u10 u11 ha0 hKQ hKQs; lia))
  have hgs : ok_ Ms := ⟨u4.2.2.2.2.2.2.2.2.2.1 hb, by rw [u4.2.2.2.2.2.2.2.1]; exact hb⟩
  have hnp := nb_pend pend sg hpe
  have e118 : Mq1 6 118 = (cm.length : Int) := by have := hE.2.2.2.2.1; simp only [List.length_cons] at this; push_cast at this; (clear hT hb hco hk hlv hlev htl h12 hc3 hc01 hsa hr hR hE hpe hlen h12' h16 h13 hQF u1 u2 u3 u4 u5 u6 u7 u8 u9 u10 u11 ha0 hKQ hKQs hg1 hgs; lia)
  have hcm13 : (cm.length : Int) ≤ 12 := by have := u4.2.2.2.2.2.1.2; (clear hT hb hk hlv hlev htl h12 hc3 hc01 hsa hr hR hE hpe hlen h12' h16 h13 hQF u1 u2 u3 u4 u5 u6 u7 u8 u9 u10 u11 ha0 hKQ hKQs hg1 hgs; lia)
  have hga : gd_ Mx a1 := gd_c (XF_70 u2 (r := 70) (by decide) (by decide) (by decide)).symm u4.1
  have hXF : XF Mx (flX_ Mx1 2 a1) := XF_tr u2 fl_XF
  have h150 : Ms 150 1200 = Mx 71 a1 := by rw [← h12]; exact pl_at hT u3 hga
  have hsp : sp_ (bf_ (ho_ (up_ Ms 234 (cm.length : Int) (cn_ (lv_ k) c1)) (sh_ k) 1200) 2 (Ms 150 1200)) := bf_sp (by rw [ho_6 (by decide), up_ne (by decide)]; exact hgs.2) (by decide)
  refine ⟨hXF, ?_⟩
  · intro V Qr Qt hV hW q
    refine hr V Qr Qt hV hW ?_
    refine l_271_26n (k := k) (a := a1) hV hW hE (by (clear hT hb hcm hco hk hlv hlev htl hc3 hc01 hsa hr hR hE hpe h12' h16 h13 hQF u1 u2 u3 u4 u5 u6 u7 u8 u9 u10 u11 ha0 hKQ hKQs hg1 hgs hnp e118 hcm13 hga hXF h150 hsp hV hW q; lia)) (by simp only [List.length_cons]; rw [hnp.1]; (clear hT hb hco hk hlv hlev htl h12 hc3 hc01 hsa hr hR hE hpe hlen h12' h16 h13 hQF u1 u2 u3 u4 u5 u6 u7 u8 u9 u10 u11 ha0 hKQ hKQs hg1 hgs hnp e118 hcm13 hga hXF h150 hsp hV hW q; lia)) hg1 h12' ha0 (by omega) hKQ (lv_cb hlv (kq_0 hKQ)) ?_
    refine l_271_90b (k := k) (a := a1) hV hW ⟨by (clear hT hb hcm hco hk hlv hlev htl hc3 hc01 hsa hr hR hE hpe hlen h16 h13 hQF u1 u2 u3 u4 u5 u6 u7 u8 u9 u10 u11 ha0 hKQ hKQs hg1 hgs hnp e118 hcm13 hga hXF h150 hsp hV hW q; lia), by (clear hT hb hcm hco hk hlv hlev htl hc3 hc01 hsa hr hR hE hpe hlen h16 h13 hQF u1 u2 u3 u4 u5 u6 u7 u8 u9 u10 u11 ha0 hKQ hKQs hg1 hgs hnp e118 hcm13 hga hXF h150 hsp hV hW q; omega)⟩ h12' hKQ hlv (fun h3 => ⟨by (clear hT hb hco hk hlv hlev htl h12 hc3 hc01 hsa hr hR hE hpe hlen h12' h16 h13 hQF u1 u2 u3 u4 u5 u6 u7 u8 u9 u10 u11 ha0 hKQ hKQs hg1 hgs hga hXF h150 hsp hV hW q h3; lia), by (clear hT hb hco hk hlv hlev htl h12 hc3 hc01 hsa hr hR hE hpe hlen h12' h16 h13 hQF u1 u2 u3 u4 u5 u6 u7 u8 u9 u10 u11 ha0 hKQ hKQs hg1 hgs hga hXF h150 hsp hV hW q h3; lia), ?_⟩) ?_
    · rw [e118]
      have := hE.2.2.2.2.2.1.1
      rw [this]; exact hc3 h3
    · refine q_289r (k := k) (lev := lev) (M1 := Ms) hR hlv hlev u5 (by (clear hT hb hcm hco hk hlv hlev htl hc3 hc01 hr hR hE hpe hlen h12' h16 h13 hQF u1 u2 u3 u4 u5 u6 u8 u9 u10 u11 ha0 hKQ hKQs hg1 hgs hnp e118 hcm13 hga hXF h150 hsp hV hW q; omega)) (by (clear hT hb hco hk hlv hlev htl h12 hc3 hc01 hsa hr hR hE hpe hlen h12' h16 h13 hQF u1 u2 u3 u4 u5 u6 u7 u8 u9 u10 u11 ha0 hKQ hKQs hg1 hgs hga hXF h150 hsp hV hW q; lia)) hc01 htl (by rw [u4.2.2.1]; exact h12) hgs (by rw [← h12]; exact hKQs) ?_
      refine l_271_st hV hW hsp (q _ 0 1 hsp ?_ ?_ ?_ ?_)
      · unfold in9_; rw [bf_6 (by decide) (by decide), ho_6 (by decide), up_ne (by decide), u4.2.2.1]; omega
      · rw [bf_13, fl_4]
      · exact ⟨by rw [bf_14, fl_5, XF_70 u2 (r := 71) (by decide) (by decide) (by decide)]; exact h150, fl_b7 u4⟩
      · exact QF_tr u3 (QF_tr (QF_tr ⟨Fr_up Fr_rf (by decide), fun i _ _ _ _ _ _ _ _ => by rw [up_ne (by decide)]⟩ ho_QF) bf_QF)
theorem cn_01 [Inhabited gh_] {lv c : Int} (h : c = 0 ∨ c = 1) : cn_ lv c = 0 ∨ cn_ lv c = 1 := by
  unfold cn_; split
  · exact .inr rfl
  · split
    · exact .inl rfl
    · exact h
/-- ahead of the right part -/
theorem PR_mid [Inhabited gh_] {F2 : Int} {Mh : mm_} (hR : PR b F Mx Mq a o sg ws c1 cm f fm cc cd) {c' : Int} (hP : EP need b F Mx Mq Mx1 Ms a a1 o sg ws c' cm f fm cc cd y1 s1 t1 bd1 l1) (hc01 : c' = 0 ∨ c' = 1) (hk : Mx 70 a1 = k) (hlv : lv_ k ≠ 0) (h12 : a1 < 1200)
    (hMh : (Mh = Mx1 ∧ F2 = F) ∨ (b = 1 ∧ Mh = nt1_ Mx1 5 a ∧ F2 = min F (8 * Mx 71 a + 5))) :
    PR b F2 (nX_ Mh) (mi_ Ms cm.length (cn_ (lv_ k) c') (sh_ k) a1) (a1 + 1) o ((sh_ k, a1) :: sg) ((t1, Mx 71 a, bd1) :: ws) (cn_ (lv_ k) c') cm f (l1 ++ fm) cc (y1 ++ cd) := by
  obtain ⟨hT, hV, hER, hQE, hXE, hL⟩ := hR
  obtain ⟨u1, u2, u3, u4, u5, u6, u7, ⟨u8, _, _, _⟩, u9, u10, u11⟩ := hP
  have hm := EP_mid (cm := cm) (c2 := cn_ (lv_ k) c') hT hER.1 u2 u4 u8 hk hlv h12 hMh
  obtain ⟨l1', l2, l3, l4, l5, l6, l7, l8, l9⟩ := hL
  refine ⟨Tks_c (XF_tr u2 hm.2.1) (QF_tr u3 mi_QF) hT, VT_c (XF_tr u2 hm.2.1) (QF_tr u3 mi_QF) hV, hm.1, mi_QE u5, hm.2.2.1, ?_, ?_, cn_01 hc01, ?_, l5, ?_, ?_, l8, ?_⟩
  · intro x hx
    rcases List.mem_cons.mp hx with h | h
    · rw [h]; exact ⟨u4.1.1, by show a1 < 1202; omega⟩
    · exact l1' x h
  · intro x hx
    rcases List.mem_cons.mp hx with h | h
    · rw [h]; exact u6
    · exact l2 x h
  · rw [l4]
    show nb_ sg = (if sh_ k = 1 ∨ sh_ k = 2 then 1 else 0) + nb_ sg
    have := sh_r (k := k)
    rw [if_neg (by (clear hc01 hk hlv h12 hMh hT hV hER hQE hXE u1 u2 u3 u4 u5 u6 u7 u8 u9 u10 u11 hm l1' l2 l3 l4 l5 l6 l7 l8 l9; omega)), Nat.zero_add]
  · simp only [List.length_cons]; push_cast; (clear hc01 hk hlv h12 hMh hT hV hER hQE hXE u1 u2 u3 u4 u5 u6 u7 u8 u10 u11 hm l1' l2 l3 l4 l5 l7 l8 l9; lia)
  · simp only [List.length_cons]; push_cast; (clear hc01 hk hlv h12 hMh hT hV hER hQE hXE u1 u2 u3 u4 u5 u6 u7 u8 u10 u11 hm l1' l2 l3 l4 l5 l6 l8 l9; lia)
  · simp only [List.length_cons, List.length_append]; push_cast; omega
/-- behind the right part: the two are one -/
theorem QB_bin [Inhabited gh_] {Mx2 Mx3 Mq2 Mq3 Ms3 : mm_} {n2 lev2 F2 a3 s2 t2 bd2 c2 c3 lv : Int} {y2 : List Int} {l2 : List (Int × Int)} (hL : LI sg ws c1 cm f fm a o) (h01 : bd1 = 0 ∨ bd1 = 1) (hl1 : (l1.length : Int) ≤ a1 - a) {sgn : Int} (hsgn : 20 ≤ sgn) (hlo : lo9_ sgn = lv) (hq1 : Rq dq 0 Mq 0 Mq2) (hqf : QF Mq Mq2)
    (hP2 : EP n2 b F2 Mx2 Mq2 Mx3 Ms3 (a1 + 1) a3 o ((sgn, a1) :: sg) ((t1, Mx 71 a, bd1) :: ws) c3 cm f (l1 ++ fm) cc (y1 ++ cd) y2 s2 t2 bd2 l2) (hQ2 : QB dq lev2 b Mq2 Mq3 Ms3 a3 ((sgn, a1) :: sg) c3 cm f) (hlev : lv ≤ lev2) :
    Rd Ms3 (rM_ Ms3 sgn (t1, Mx 71 a, bd1) (t2, Mx2 71 (a1 + 1), bd2) ws.length) sgn (t1, Mx 71 a, bd1) (t2, Mx2 71 (a1 + 1), bd2)
    ∧ QE (rM_ Ms3 sgn (t1, Mx 71 a, bd1) (t2, Mx2 71 (a1 + 1), bd2) ws.length) sg ((if sgn < 25 then 1 else 2, Mx 71 a, rb_ sgn (t1, Mx 71 a, bd1) (t2, Mx2 71 (a1 + 1), bd2)) :: ws) (c3 :: cm) f ((sgn, 0) :: (l2 ++ (l1 ++ fm)))
    ∧ QB dq lv b Mq Mq3 (rM_ Ms3 sgn (t1, Mx 71 a, bd1) (t2, Mx2 71 (a1 + 1), bd2) ws.length) a3 sg c3 cm f := by
  obtain ⟨v1, v2, v3, v4, v5, v6, v7, v8, v9, v10, v11⟩ := hP2
  obtain ⟨hr, hR, pend, wsP, fmP, hE, hpe, hlen, h12', h16, h13, hQF⟩ := hQ2
  obtain ⟨q1, q2, q3, q4, q5, q6, q7, q8, q9⟩ := hL
  have ha3 : a3 ≤ 1200 := v4.1.2.1
  refine ⟨rM_Rd, rM_QE v5, Rq_tr hq1 hr, ?_, pend ++ [(sgn, a1)], wsP, fmP, ?_, ?_, ?_, h12', h16, h13, QF_tr hqf hQF⟩
  · refine Red_tr hR (l2 := lv) ?_ hlev (Int.le_refl _)
    intro x1 x2 e1 e2 V Qr Qt hV hW q
    refine m_286_11 (d := dq + 6) hV hW v5 (by (clear h01 hsgn hlo hq1 hqf hlev v2 v3 v4 v5 v6 v7 v8 v9 v10 v11 hr hR hE hpe h16 h13 hQF q1 q2 q3 q4 q5 q6 q8 q9 e1 e2 hV hW q; lia)) (by (clear h01 hsgn hlo hq1 hqf hlev v2 v3 v4 v5 v6 v7 v8 v9 v10 v11 hr hR hE hpe h16 h13 hQF q1 q2 q3 q4 q5 q7 q8 q9 e1 e2 hV hW q; lia)) q8 ?_ h01 v6 (by (clear h01 hl1 hsgn hq1 hqf hlev v1 v2 v3 v4 v5 v6 v7 v8 v9 v10 v11 hr hR hE hpe hlen h12' h16 h13 hQF q1 q2 q3 q4 q5 q6 q7 q8 q9 ha3 e1 hV hW q; omega)) q
    simp only [List.length_append]; push_cast; (clear h01 hsgn hlo hq1 hqf hlev v1 v2 v3 v4 v5 v6 v8 v9 v10 v11 hr hR hE hpe h16 h13 hQF q1 q2 q3 q4 q5 q6 q7 q8 e1 e2 hV hW q; omega)
  · rw [List.append_assoc]; exact hE
  · intro x hx
    rcases List.mem_append.mp hx with h | h
    · exact hpe x h
    · rw [List.mem_singleton.mp h]; exact hsgn
  · rw [List.append_assoc]; exact hlen
end RO
end T74_er
section T75_er
/-! prod -/
def nU (n : Nat) (t : Int) : Int := if t = 1 then 1 + 2 * n else 3 + 3 * n
def nP (n : Nat) (t : Int) : Int := if t = 1 then 2 + 2 * n else 3 + 3 * n
def nS (n : Nat) (t : Int) : Int := if t = 1 then 3 + 2 * n else 3 + 3 * n
def nR (n : Nat) (t : Int) : Int := if t = 1 then 3 + 2 * n else 4 + 3 * n
def nC (n : Nat) (t : Int) : Int := if t = 1 then 3 + 2 * n else 5 + 3 * n
def nE (n : Nat) (t : Int) : Int := if t = 1 then 3 + 2 * n else 6 + 3 * n
def NX (lev k c c' : Int) : Prop := (lev ≤ lv_ k → lv_ k = 3 ∧ lev ≤ 3 ∧ c' = 1) ∧ (4 ≤ lev → c' = c)
def Ex9 (dq : Nat) (M M' : mm_) : Prop := ∀ (Kv : mm_ → Prop) (Qt : qt_), Kv M' → Tr_ wd0 pg0 (dq + 7) 279 [.inr (.inr 6)] M (rv_ Kv) Qt
/-- what is said of un -/
def SA [Inhabited gh_] (m nt D dq n : Nat) (o : Int) : Prop := ∀ (b F : Int) (Mx Mq : mm_) (a : Int) (sg : List (Int × Int)) (ws : List (Int × Int × Int)) (c : Int) (cm : List Int) (f : Int) (fm : List (Int × Int)) (cc : Int) (cd : List Int) (K : Int → mm_ → Prop) (Qt : qt_),
  PR b F Mx Mq a o sg ws c cm f fm cc cd → (b = 1 → ES (Mx 70) nt o a ≠ none) →
  (∀ s Mx' Mq' a' y t bd l, EP (nU n t) b F Mx Mq Mx' Mq' a a' o sg ws c cm f fm cc cd y s t bd l → (b = 1 → bd = 1 → s = -1) → (∀ M', Ex9 dq Mq' M' → Rq dq 0 Mq 1 M') → ES (Mx 70) nt o a = some a' → K s Mx') →
  (b = 0 → ∀ Mx', XW dq 0 Mx Mq Mx' → Qt 8 Mx') → Tr_ wd0 pg0 D m [.inr (.inr 1)] Mx (ri_ K) Qt
/-- what is said of prod, sum, rel, con, e -/
def SB [Inhabited gh_] (m nt : Nat) (lev : Int) (nd : Int → Int) (D dq : Nat) (o : Int) : Prop := ∀ (b F : Int) (Mx Mq : mm_) (a : Int) (sg : List (Int × Int)) (ws : List (Int × Int × Int)) (c : Int) (cm : List Int) (f : Int) (fm : List (Int × Int)) (cc : Int) (cd : List Int) (K : Int → mm_ → Prop) (Qt : qt_),
  PR b F Mx Mq a o sg ws c cm f fm cc cd → nP_ sg → tl_ sg < lev → (lev ≤ 3 → c = 0) → (b = 1 → ES (Mx 70) nt o a ≠ none) →
  (∀ s Mx' Mq' Ms a' c' y t bd l, EP (nd t) b F Mx Mq Mx' Ms a a' o sg ws c' cm f fm cc cd y s t bd l → (b = 1 → bd = 1 → s = -1) → QB dq lev b Mq Mq' Ms a' sg c' cm f → ES (Mx 70) nt o a = some a' → (c' = 0 ∨ c' = 1) → NX lev (Mx 70 a') c c' → K s Mx') →
  (b = 0 → ∀ Mx', XW dq 0 Mx Mq Mx' → Qt 8 Mx') → Tr_ wd0 pg0 D m [.inr (.inr 1)] Mx (ri_ K) Qt
section PD
variable {dq D n : Nat} {n1 n2 b F : Int} {Mx Mq Mx1 Mq1 Ms : mm_} {a a1 o : Int} {sg : List (Int × Int)} {ws : List (Int × Int × Int)} {c c1 : Int} {cm : List Int} {f : Int} {fm : List (Int × Int)} {cc : Int} {cd y1 : List Int} {s1 t1 bd1 k : Int} {l1 : List (Int × Int)} {K : Int → mm_ → Prop} {Kv : mm_ → Prop} {Qr : qr_} {Qt : qt_} {V : vv_}
theorem EP_weak [Inhabited gh_] (h : EP n1 b F Mx Mq Mx1 Ms a a1 o sg ws c1 cm f fm cc cd y1 s1 t1 bd1 l1) (hn : n1 ≤ n2) : EP n2 b F Mx Mq Mx1 Ms a a1 o sg ws c1 cm f fm cc cd y1 s1 t1 bd1 l1 := by
  obtain ⟨u1, u2, u3, u4, u5, u6, u7, u8, u9, u10, u11⟩ := h
  exact ⟨u1, u2, u3, u4, u5, u6, u7, u8, u9, u10, fun h1 h2 st Dd hd => u11 h1 h2 st Dd (by omega)⟩
theorem EP_ret [Inhabited gh_] (h : EP n1 b F Mx Mq Mx1 Ms a a1 o sg ws c1 cm f fm cc cd y1 s1 t1 bd1 l1) {s : Int} (hs : s = if Mx1 1 7 ≤ Mx 1 7 then s1 else -1) : EP n1 b F Mx Mq Mx1 Ms a a1 o sg ws c1 cm f fm cc cd y1 s t1 bd1 l1 ∧ (b = 1 → bd1 = 1 → s = -1) := by
  obtain ⟨u1, u2, u3, u4, u5, u6, u7, u8, u9, u10, u11⟩ := h
  have e1 : b = 1 → bd1 = 1 → s = -1 := fun h1 h2 => by rw [hs, if_neg (by have := ((u10 h1).2 h2).2.1; omega)]
  refine ⟨⟨u1, u2, u3, u4, u5, u6, u7, u8, u9, fun h1 => ⟨fun h2 => ?_, fun h2 => ⟨.inl (e1 h1 h2), ((u10 h1).2 h2).2⟩⟩, u11⟩, e1⟩
  have := (u10 h1).1 h2
  rw [hs, if_pos (by omega)]; exact this
theorem EP_iX [Inhabited gh_] (h : EP n1 b F Mx Mq Mx1 Ms a a1 o sg ws c1 cm f fm cc cd y1 s1 t1 bd1 l1) : iX_ Mx1 := ⟨by have := h.2.2.2.1.2.1; have := h.2.2.2.1.1.1; omega, by have := h.2.2.2.1.2.1; have := h.2.2.2.1.1.2.1; omega⟩
theorem EP_70 [Inhabited gh_] (h : EP n1 b F Mx Mq Mx1 Ms a a1 o sg ws c1 cm f fm cc cd y1 s1 t1 bd1 l1) : Mx1 70 (Mx1 1 3) = Mx 70 a1 := by
  rw [XF_70 h.2.1 (r := 70) (by decide) (by decide) (by decide), h.2.2.2.1.2.1]
theorem un_B [Inhabited gh_] (hsg : nP_ sg) (hL : LI sg ws c cm f fm a o) (h : EP n1 b F Mx Mq Mx1 Ms a a1 o sg ws c cm f fm cc cd y1 s1 t1 bd1 l1) (hx : ∀ M', Ex9 dq Ms M' → Rq dq 0 Mq 1 M') : QB dq 5 b Mq Ms Ms a1 sg c cm f := by
  have hR : Rq dq 0 Mq 1 Ms := hx Ms fun Kv Qt hk => q_279n h.2.2.2.2.1 (by have := hL.2.2.2.2.2.1; have := h.1; have := h.2.2.2.1.1.2.1; (clear hsg hL h hx hk; lia)) hsg hk
  refine ⟨hR, Red_rf, [], _, _, h.2.2.2.2.1, fun x hx => absurd hx (by simp), ?_, h.2.2.2.1.2.2.1, h.2.2.2.1.2.2.2.2.2.2.2.1, h.2.2.2.1.2.2.2.2.2.2.2.2.2.1, h.2.2.1⟩
  simp only [List.nil_append]
  have := hL.2.2.2.2.2.1; have := h.1; omega
/-- the way over a sign, whatever X's method: Mh has what was asked of the left part -/
theorem mh_c [Inhabited gh_] {sgn : Int} {Mh : mm_} {F2 : Int} (h8 : Mx1 1 8 = b) (h01 : b = 0 ∨ b = 1) (hMh : Mh = if sgn = 25 ∨ sgn = 26 then Mx1 else hX_ Mx1 s1 (rw_ sgn - 1) a) (hF2 : F2 = if b = 0 ∨ (sgn = 25 ∨ sgn = 26) ∨ s1 = -1 ∨ s1 = rw_ sgn - 1 then F else min F (8 * Mx 71 a + 5)) : (Mh = Mx1 ∧ F2 = F) ∨ (b = 1 ∧ Mh = nt1_ Mx1 5 a ∧ F2 = min F (8 * Mx 71 a + 5)) := by
  rw [hMh, hF2]
  by_cases any : sgn = 25 ∨ sgn = 26
  · rw [if_pos any, if_pos (.inr (.inl any))]; exact .inl ⟨rfl, rfl⟩
  · rw [if_neg any]
    rcases hX_c (M := Mx1) s1 (rw_ sgn - 1) a h8 h01 with h | h
    · refine .inl ⟨h.1, ?_⟩
      rw [if_pos]
      rcases h.2 with h3 | h3
      · exact .inl h3
      · exact .inr (.inr h3)
    · refine .inr ⟨h.1, h.2.2.2, ?_⟩
      rw [if_neg]
      rintro (h3 | h3 | h3 | h3)
      · omega
      · exact any h3
      · exact h.2.1 h3
      · exact h.2.2.1 h3
/-- small facts -/
theorem ER_a [Inhabited gh_] (h : ER b F Mx Mq a o) : 0 ≤ a ∧ a ≤ 1200 := ⟨h.1.1, h.1.2.1⟩
theorem ER_fl [Inhabited gh_] (h : ER b F Mx Mq a o) : 0 ≤ Mx 1 7 ∧ Mx 1 7 < 2147483647 := by
  have h1 := h.1.2.1
  have h2 := h.2.2.2.2.2.2.2.2.2.2.2.1
  have h3 := h.2.2.2.2.2.2.2.2.2.2.2.2.1
  clear h
  omega
theorem ER_st [Inhabited gh_] (h : ER b F Mx Mq a o) : 0 ≤ Mx 5 3 ∧ Mx 5 3 < 12000 := by
  have h1 := h.1.2.1
  have h2 := h.2.2.2.2.2.2.2.2.2.2.2.2.2.1
  have h3 := h.2.2.2.2.2.2.2.2.2.2.2.2.2.2
  clear h
  lia
theorem ER_iX [Inhabited gh_] (h : ER b F Mx Mq a o) : iX_ Mx := by unfold iX_; rw [h.2.1]; exact ER_a h
/-- X's memory when it has asked the left part for a sort -/
def hM9 (M : mm_) (k s a : Int) : mm_ := if sh_ k = 25 ∨ sh_ k = 26 then M else hX_ M s (rw_ (sh_ k) - 1) a
theorem hM9_1 [Inhabited gh_] {k s i : Int} (h4 : i ≠ 4) (h5 : i ≠ 5) (h7 : i ≠ 7) : hM9 Mx1 k s a 1 i = Mx1 1 i := by
  unfold hM9; split
  · rfl
  · exact hX_1 h4 h5 h7
theorem hM9_r [Inhabited gh_] {k s : Int} {r : Nat} (h : r ≠ 1) : hM9 Mx1 k s a r = Mx1 r := by
  unfold hM9; split
  · rfl
  · exact hX_r h
theorem hM9_XF [Inhabited gh_] {k s : Int} : XF Mx1 (hM9 Mx1 k s a) := by
  unfold hM9; split
  · exact XF_rf
  · exact hX_XF
theorem hM9_0 [Inhabited gh_] {k s : Int} (h : Mx1 1 8 = 0) : hM9 Mx1 k s a = Mx1 := by
  unfold hM9 hX_; split
  · rfl
  · rw [if_pos (.inl h)]
def F9 (b F k s p : Int) : Int := if b = 0 ∨ (sh_ k = 25 ∨ sh_ k = 26) ∨ s = -1 ∨ s = rw_ (sh_ k) - 1 then F else min F (8 * p + 5)
/-- ahead of the right part, for whatever sign -/
theorem rnd_pre [Inhabited gh_] {lev c' : Int} (hR : PR b F Mx Mq a o sg ws c cm f fm cc cd) (hP : EP n1 b F Mx Mq Mx1 Ms a a1 o sg ws c' cm f fm cc cd y1 s1 t1 bd1 l1) (hB : QB dq lev b Mq Mq1 Ms a1 sg c' cm f) (hc01 : c' = 0 ∨ c' = 1) (hlv : lv_ (Mx 70 a1) ≠ 0) (hlev : lv_ (Mx 70 a1) ≤ lev) (htl : tl_ sg < lv_ (Mx 70 a1)) (hc3 : lv_ (Mx 70 a1) = 3 → c' = 0) (h12 : a1 < 1200) :
    PR b (F9 b F (Mx 70 a1) s1 (Mx 71 a)) (nX_ (hM9 Mx1 (Mx 70 a1) s1 a)) (mi_ Ms cm.length (cn_ (lv_ (Mx 70 a1)) c') (sh_ (Mx 70 a1)) a1) (a1 + 1) o ((sh_ (Mx 70 a1), a1) :: sg) ((t1, Mx 71 a, bd1) :: ws) (cn_ (lv_ (Mx 70 a1)) c') cm f (l1 ++ fm) cc (y1 ++ cd)
    ∧ Rq dq 0 Mq 0 (mi_ Ms cm.length (cn_ (lv_ (Mx 70 a1)) c') (sh_ (Mx 70 a1)) a1) ∧ XF Mx (nX_ (hM9 Mx1 (Mx 70 a1) s1 a)) ∧ QF Mq (mi_ Ms cm.length (cn_ (lv_ (Mx 70 a1)) c') (sh_ (Mx 70 a1)) a1) ∧ nX_ (hM9 Mx1 (Mx 70 a1) s1 a) 70 = Mx 70 ∧ nX_ (hM9 Mx1 (Mx 70 a1) s1 a) 1 3 = a1 + 1 ∧ nX_ (hM9 Mx1 (Mx 70 a1) s1 a) 1 2 = 5 := by
  have hER := hP.2.2.2.1
  have hc := mh_c (Mx := Mx) (F := F) (sgn := sh_ (Mx 70 a1)) (Mh := hM9 Mx1 (Mx 70 a1) s1 a) (F2 := F9 b F (Mx 70 a1) s1 (Mx 71 a)) hER.2.2.2.2.2.2.1 hER.2.2.2.2.2.2.2.2.1 rfl rfl
  have hPR := PR_mid hR hP hc01 rfl hlv h12 hc
  have hL := hR.2.2.2.2.2
  have hX2 : XF Mx (nX_ (hM9 Mx1 (Mx 70 a1) s1 a)) := XF_tr hP.2.1 (XF_tr hM9_XF nX_XF)
  refine ⟨hPR, QB_sign hR.1 hP hB hL.2.2.2.1 hL.2.2.2.2.1 rfl hlv hlev htl h12 hc3 hc01 hL.2.2.2.2.2.1, hX2, QF_tr hP.2.2.1 mi_QF, XF_70 hX2 (by decide) (by decide) (by decide), hPR.2.2.1.2.1, hPR.2.1.1⟩
/-- behind the right part -/
theorem rnd_post [Inhabited gh_] {lev2 c' c3 a3 s2 t2 bd2 n3 : Int} {Mx3 Mq3 Ms3 : mm_} {y2 : List Int} {l2 : List (Int × Int)} (hR : PR b F Mx Mq a o sg ws c cm f fm cc cd) (hP : EP n1 b F Mx Mq Mx1 Ms a a1 o sg ws c' cm f fm cc cd y1 s1 t1 bd1 l1) (hlv : lv_ (Mx 70 a1) ≠ 0) (hlev : lv_ (Mx 70 a1) ≤ lev2) (h12 : a1 < 1200)
    (hs1 : b = 1 → bd1 = 1 → s1 = -1 ∨ (s1 = rw_ (sh_ (Mx 70 a1)) - 1 ∧ ¬ (sh_ (Mx 70 a1) = 25 ∨ sh_ (Mx 70 a1) = 26)))
    (hsign : Rq dq 0 Mq 0 (mi_ Ms cm.length (cn_ (lv_ (Mx 70 a1)) c') (sh_ (Mx 70 a1)) a1))
    (hP2 : EP n2 b (F9 b F (Mx 70 a1) s1 (Mx 71 a)) (nX_ (hM9 Mx1 (Mx 70 a1) s1 a)) (mi_ Ms cm.length (cn_ (lv_ (Mx 70 a1)) c') (sh_ (Mx 70 a1)) a1) Mx3 Ms3 (a1 + 1) a3 o ((sh_ (Mx 70 a1), a1) :: sg) ((t1, Mx 71 a, bd1) :: ws) c3 cm f (l1 ++ fm) cc (y1 ++ cd) y2 s2 t2 bd2 l2)
    (hs2 : b = 1 → bd2 = 1 → s2 = -1) (hB2 : QB dq lev2 b (mi_ Ms cm.length (cn_ (lv_ (Mx 70 a1)) c') (sh_ (Mx 70 a1)) a1) Mq3 Ms3 a3 ((sh_ (Mx 70 a1), a1) :: sg) c3 cm f)
    (hn : b = 1 → bd1 = 0 → bd2 = 0 → (if sh_ (Mx 70 a1) = 25 ∨ sh_ (Mx 70 a1) = 26 then t1 = t2 else t1 = rw_ (sh_ (Mx 70 a1)) ∧ t2 = rw_ (sh_ (Mx 70 a1))) → n1 ≤ n3 ∧ n2 + 1 ≤ n3) :
    ∃ (Ms4 : mm_) (y4 : List Int) (bd4 : Int) (l4 : List (Int × Int)), EP n3 b F Mx Mq (pX_ (hX_ Mx3 s2 (if sh_ (Mx 70 a1) = 25 ∨ sh_ (Mx 70 a1) = 26 then s1 else rw_ (sh_ (Mx 70 a1)) - 1) (a1 + 1)) (xo9_ (sh_ (Mx 70 a1)))) Ms4 a a3 o sg ws c3 cm f fm cc cd y4 ((if sh_ (Mx 70 a1) < 25 then 1 else 2) - 1) (if sh_ (Mx 70 a1) < 25 then 1 else 2) bd4 l4 ∧ QB dq (lv_ (Mx 70 a1)) b Mq Mq3 Ms4 a3 sg c3 cm f := by
  have hL := hR.2.2.2.2.2
  have hbin := QB_bin (c2 := 0) (Mx := Mx) hL hP.2.2.2.2.2.1 hP.2.2.2.2.2.2.1 (sh_r (k := Mx 70 a1)).1 (lo_sh hlv) hsign (QF_tr hP.2.2.1 mi_QF) hP2 hB2 hlev
  exact ⟨_, _, _, _, EP_bin (n := n3) hR.1 hR.2.2.1.1 hP rfl rfl hlv h12 rfl rfl hP2 hs1 hs2 hbin.1 hbin.2.1 hn, hbin.2.2⟩
end PD
end T75_er
section T76_er
/-! X's way over a sign: goes, the right part, its sort, the step -/
section RT
variable {dq D n : Nat} {n1 b F : Int} {Mx Mq Mx1 Mq1 Ms : mm_} {a a1 o : Int} {sg : List (Int × Int)} {ws : List (Int × Int × Int)} {c c1 : Int} {cm : List Int} {f : Int} {fm : List (Int × Int)} {cc : Int} {cd y1 : List Int} {s1 t1 bd1 k : Int} {l1 : List (Int × Int)} {K : Int → mm_ → Prop} {Kv : mm_ → Prop} {Qr : qr_} {Qt : qt_} {V : vv_}
theorem SA_SB [Inhabited gh_] {m nt : Nat} (h : SA m nt D dq n o) : SB m nt 6 (nU n) D dq o := by
  intro b F Mx Mq a sg ws c cm f fm cc cd K Qt hR hnp htl hc3 hS hK hQ
  refine h b F Mx Mq a sg ws c cm f fm cc cd K Qt hR hS ?_ hQ
  intro s Mx' Mq' a' y t bd l hP hs hx hS2
  have hB := un_B hnp hR.2.2.2.2.2 hP hx
  refine hK s Mx' Mq' Mq' a' c y t bd l hP hs ⟨hB.1, Red_rf, hB.2.2⟩ hS2 hR.2.2.2.2.2.2.2.1 ⟨fun h9 => ?_, fun _ => rfl⟩
  have := (lv_r (k := Mx 70 a')).2
  exact absurd h9 (by clear hK hQ hS hP hB hR; (clear h hnp htl hc3 hs hx hS2; omega))
theorem x_rt [Inhabited gh_] {m nt2 : Nat} {lev lev2 c' w op n3 : Int} {nd : Int → Int} {G : mm_ → Prop} (hSB : SB m nt2 lev2 nd (D + 3) dq o) (hR : PR b F Mx Mq a o sg ws c cm f fm cc cd) (hP : EP n1 b F Mx Mq Mx1 Ms a a1 o sg ws c' cm f fm cc cd y1 s1 t1 bd1 l1) (hB : QB dq lev b Mq Mq1 Ms a1 sg c' cm f) (hc01 : c' = 0 ∨ c' = 1)
    (hlv : lv_ (Mx 70 a1) ≠ 0) (hlev : lv_ (Mx 70 a1) ≤ lev) (hlev2 : lv_ (Mx 70 a1) < lev2) (htl : tl_ sg < lv_ (Mx 70 a1)) (hc3 : lv_ (Mx 70 a1) = 3 → c' = 0) (hcn : lev2 ≤ 3 → cn_ (lv_ (Mx 70 a1)) c' = 0) (hw : w = if sh_ (Mx 70 a1) = 25 ∨ sh_ (Mx 70 a1) = 26 then s1 else rw_ (sh_ (Mx 70 a1)) - 1) (hop : op = xo9_ (sh_ (Mx 70 a1)))
    (hs1 : b = 1 → bd1 = 1 → s1 = -1 ∨ (s1 = rw_ (sh_ (Mx 70 a1)) - 1 ∧ ¬ (sh_ (Mx 70 a1) = 25 ∨ sh_ (Mx 70 a1) = 26)))
    (hS : b = 1 → a1 < 1200 ∧ ES (Mx 70) nt2 o (a1 + 1) ≠ none)
    (hn : ∀ t2 : Int, (if sh_ (Mx 70 a1) = 25 ∨ sh_ (Mx 70 a1) = 26 then t1 = t2 else t1 = rw_ (sh_ (Mx 70 a1)) ∧ t2 = rw_ (sh_ (Mx 70 a1))) → n1 ≤ n3 ∧ nd t2 + 1 ≤ n3)
    (hG : ∀ (Mx4 Mq3 Ms4 : mm_) (a3 c3 bd4 : Int) (y4 : List Int) (l4 : List (Int × Int)), a1 < 1200 → EP n3 b F Mx Mq Mx4 Ms4 a a3 o sg ws c3 cm f fm cc cd y4 ((if sh_ (Mx 70 a1) < 25 then 1 else 2) - 1) (if sh_ (Mx 70 a1) < 25 then 1 else 2) bd4 l4 → QB dq (lv_ (Mx 70 a1)) b Mq Mq3 Ms4 a3 sg c3 cm f → ES (Mx 70) nt2 o (a1 + 1) = some a3 → a1 < a3 → (c3 = 0 ∨ c3 = 1) → NX lev2 (Mx 70 a3) (cn_ (lv_ (Mx 70 a1)) c') c3 → G Mx4)
    (hQ : b = 0 → ∀ Mx', XW dq 0 Mx Mq Mx' → Qt 8 Mx') :
    Tr_ wd0 pg0 (D + 3) 105 [.inr (.inr 1)] (hM9 Mx1 (Mx 70 a1) s1 a) (rv_ fun M1 => Tr_ wd0 pg0 (D + 3) m [.inr (.inr 1)] M1 (ri_ fun v1 M2 => Tr_ wd0 pg0 (D + 3) 156 [.inr (.inr 1), .inl v1, .inl w, .inl (M1 1 3)] M2 (rv_ fun M3 => Tr_ wd0 pg0 (D + 3) 138 [.inr (.inr 1), .inl op] M3 (rv_ G) Qt) Qt) Qt) Qt := by
  have hER := hP.2.2.2.1
  have h3 : hM9 Mx1 (Mx 70 a1) s1 a 1 3 = a1 := by rw [hM9_1 (by decide) (by decide) (by decide)]; exact hER.2.1
  have hi : iX_ (hM9 Mx1 (Mx 70 a1) s1 a) := by unfold iX_; rw [h3]; exact ER_a hER
  have hL := hR.2.2.2.2.2
  refine x_105 hi (fun h9 => ?_) (fun h9 => ?_)
  · rw [h3] at h9
    obtain ⟨p1, p2, p3, p4, p5, p6, p7⟩ := rnd_pre hR hP hB hc01 hlv hlev htl hc3 h9
    refine hSB b _ _ _ (a1 + 1) _ _ _ cm f _ cc _ _ _ p1 ?_ ?_ hcn (fun h => by rw [p5]; exact (hS h).2) ?_ (fun h Mx' hw => hQ h Mx' (XW_tr p3 p4 p2 hw))
    · have := (sh_r (k := Mx 70 a1)).1
      refine ⟨?_, ?_⟩
      · show sh_ (Mx 70 a1) ≠ 13
        intro e; rw [e] at this; exact absurd this (by decide)
      · show sh_ (Mx 70 a1) ≠ 14
        intro e; rw [e] at this; exact absurd this (by decide)
    · show lo9_ (sh_ (Mx 70 a1)) < lev2
      rw [lo_sh hlv]; exact hlev2
    · intro s2 Mx3 Mq3 Ms3 a3 c3 y2 t2 bd2 l2 hP2 hs2 hB2 hS4 h301 hNX
      rw [p5] at hS4 hNX
      have w1 := hP2.2.2.2.1
      rw [p6]
      refine x_156 (by have := (ER_a hER).1; (clear hSB hR hP hB hc01 hlv hlev hlev2 htl hc3 hcn hw hop hs1 hS hn hG hQ hER h3 hi hL p1 p2 p3 p4 p5 p7 hP2 hs2 hB2 hS4 h301 hNX w1; lia)) (by (clear hSB hR hP hB hc01 hlv hlev hlev2 htl hc3 hcn hw hop hs1 hS hn hG hQ hER h3 hi hL p1 p2 p3 p4 p5 p7 hP2 hs2 hB2 hS4 h301 hNX w1; lia)) (ER_fl w1).1 (ER_fl w1).2 ?_
      refine x_138 ?_ ?_ ?_ ?_
      · rw [hX_1 (by decide) (by decide) (by decide), hP2.2.1.2.1 2 (by decide) (by decide) (by decide) (by decide) (by decide)]; exact p7
      · rw [hX_r (by decide)]; exact (ER_st w1).1
      · rw [hX_r (by decide)]; exact (ER_st w1).2
      · obtain ⟨Ms4, y4, bd4, l4, q1, q2⟩ := rnd_post (n3 := n3) hR hP hlv (Int.le_of_lt hlev2) h9 hs1 p2 hP2 hs2 hB2 (fun _ _ _ ht => hn t2 ht)
        rw [hw, hop]
        exact hG _ _ _ a3 c3 bd4 y4 l4 h9 q1 q2 hS4 (by have := hP2.1; (clear hSB hR hP hB hc01 hlv hlev hlev2 htl hc3 hcn hw hop hs1 hS hn hG hQ hER h3 hi hL h9 p1 p2 p3 p4 p5 p7 hP2 hs2 hB2 hS4 h301 hNX w1 q1 q2; omega)) h301 hNX
  · rw [h3] at h9
    have hb0 : b = 0 := by
      rcases hER.2.2.2.2.2.2.2.2.1 with h | h
      · exact h
      · exact absurd (hS h).1 (by (clear hSB hR hP hB hc01 hlv hlev hlev2 htl hc3 hcn hw hop hs1 hS hn hG hQ hER h3 hi hL h; omega))
    refine hQ hb0 _ ?_
    rw [h3, hM9_0 (by rw [hER.2.2.2.2.2.2.1]; exact hb0)]
    exact QB_room hR.1 hb0 hP hB hL.2.2.2.1 hL.2.2.2.2.1 rfl hlv hlev htl h9 hc3 hc01 hL.2.2.2.2.2.1
end RT
end T76_er
section T77_er
/-! prod, sum, con, e: their loops -/
theorem gb_ne [Inhabited gh_] {a : Int} {E g : Int → Option Int} (h : ((gS a).bind fun a2 => (E a2).bind g) ≠ none) : a < 1200 ∧ E (a + 1) ≠ none := by
  by_cases c : a < 1200
  · refine ⟨c, fun h2 => h ?_⟩
    unfold gS; rw [if_pos c]
    show (E (a + 1)).bind g = none
    rw [h2]; rfl
  · exact absurd (by unfold gS; rw [if_neg c]; rfl) h
theorem gb_eq [Inhabited gh_] {a r : Int} {E g : Int → Option Int} (h : a < 1200) (h2 : E (a + 1) = some r) : ((gS a).bind fun a2 => (E a2).bind g) = g r := by
  unfold gS; rw [if_pos h]
  show (E (a + 1)).bind g = g r
  rw [h2]; rfl
theorem hM9_e [Inhabited gh_] {M : mm_} {k s a w : Int} (h : ¬ (sh_ k = 25 ∨ sh_ k = 26)) (hw : w = rw_ (sh_ k) - 1) : hM9 M k s a = hX_ M s w a := by unfold hM9; rw [if_neg h, hw]
theorem k5_ [Inhabited gh_] {k : Int} (h : lv_ k = 5) : k = 242 ∨ k = 247 ∨ k = 237 := by
  unfold lv_ at h
  repeat' split at h
  all_goals omega
theorem k4_ [Inhabited gh_] {k : Int} (h : lv_ k = 4) : k = 243 ∨ k = 245 := by
  unfold lv_ at h
  repeat' split at h
  all_goals omega
theorem k2_ [Inhabited gh_] {k : Int} (h : lv_ k = 2) : k = 42 := by
  unfold lv_ at h
  repeat' split at h
  all_goals omega
theorem k1_ [Inhabited gh_] {k : Int} (h : lv_ k = 1) : k = 43 := by
  unfold lv_ at h
  repeat' split at h
  all_goals omega
theorem k3_ [Inhabited gh_] {k : Int} (h : lv_ k = 3) : k = 261 ∨ k = 111 ∨ k = 260 ∨ k = 112 ∨ k = 262 ∨ k = 113 := by
  unfold lv_ at h
  repeat' split at h
  all_goals omega
section LO
variable {dq D n : Nat} {b F : Int} {Mx Mq : mm_} {a o : Int} {sg : List (Int × Int)} {ws : List (Int × Int × Int)} {c : Int} {cm : List Int} {f : Int} {fm : List (Int × Int)} {cc : Int} {cd : List Int} {K : Int → mm_ → Prop} {Qt : qt_} {V : vv_}
theorem l_150 [Inhabited gh_] (hSB : SB 151 5 6 (nU n) (D + 3) dq o) (hV : Cl_ wd0 (Tr_ wd0 pg0 (D + 3)) V (ri_ K) Qt m_150) (hW : Wk_ V) (hR : PR b F Mx Mq a o sg ws c cm f fm cc cd) (htl : tl_ sg < 5)
    (hK : ∀ s Mx' Mq' Ms a' c' y t bd l, EP (nP n t) b F Mx Mq Mx' Ms a a' o sg ws c' cm f fm cc cd y s t bd l → (b = 1 → bd = 1 → s = -1) → QB dq 5 b Mq Mq' Ms a' sg c' cm f → ES (Mx 70) 4 o a = some a' → (c' = 0 ∨ c' = 1) → NX 5 (Mx 70 a') c c' → K s Mx')
    (hQ : b = 0 → ∀ Mx', XW dq 0 Mx Mq Mx' → Qt 8 Mx') :
    ∀ (j : Nat) (Mx1 Mq1 Ms : mm_) (a1 s1 t1 bd1 : Int) (y1 : List Int) (l1 : List (Int × Int)), (1201 - a1).toNat ≤ j → EP (nP n t1) b F Mx Mq Mx1 Ms a a1 o sg ws c cm f fm cc cd y1 s1 t1 bd1 l1 → (b = 1 → bd1 = 1 → s1 = -1 ∨ s1 = 0) → QB dq 5 b Mq Mq1 Ms a1 sg c cm f → (b = 1 → ES (Mx 70) 10 o a1 ≠ none) → ES (Mx 70) 4 o a = ES (Mx 70) 10 o a1 → V 15 [rr 1, ii (Mx 1 7), ii a, ii s1, none, none] [] Mx1 := by
  have hc01 : c = 0 ∨ c = 1 := hR.2.2.2.2.2.2.2.1
  have hER0 := hR.2.2.1
  intro j
  induction j with
  | zero =>
    intro Mx1 Mq1 Ms a1 s1 t1 bd1 y1 l1 hj hP
    have := hP.2.2.2.1.1.2.1
    clear hK hQ hSB
    (clear hV hW hR htl hc01 hER0 hP; lia)
  | succ j ih =>
    intro Mx1 Mq1 Ms a1 s1 t1 bd1 y1 l1 hj hP hs1 hB hS hS2
    have hER := hP.2.2.2.1
    have hiX := EP_iX hP
    have e70 := EP_70 hP
    have ha1 := ER_a hER
    have hfl := ER_fl hER
    rw [ES_10 ha1.1 ha1.2] at hS hS2
    have out : lv_ (Mx 70 a1) ≠ 5 → (if Mx1 1 7 ≤ Mx 1 7 then ri_ K [.inl s1] Mx1 else ri_ K [.inl (-1)] Mx1) := by
      intro h5
      rw [if_neg h5] at hS2
      have hp := EP_ret hP (s := if Mx1 1 7 ≤ Mx 1 7 then s1 else -1) rfl
      have hk := hK _ _ _ _ _ _ _ _ _ _ hp.1 hp.2 hB hS2 hc01 ?_
      · split
        · rename_i h; rw [if_pos h] at hk; exact ri_i hk
        · rename_i h; rw [if_neg h] at hk; exact ri_i hk
      · clear ih hK hQ hSB hP hB hp
        have h9 := lv_r (k := Mx 70 a1)
        exact ⟨fun h8 => absurd h8 (by (clear hV hW hR htl hc01 hER0 hj hs1 hS hS2 hER hiX e70 ha1 hfl; lia)), fun _ => rfl⟩
    have pre : lv_ (Mx 70 a1) = 5 → lv_ (Mx 70 a1) ≠ 0 ∧ ¬ (sh_ (Mx 70 a1) = 25 ∨ sh_ (Mx 70 a1) = 26) ∧ rw_ (sh_ (Mx 70 a1)) = 1 ∧ (if sh_ (Mx 70 a1) < 25 then (1 : Int) else 2) = 1 := by
      intro h5
      have hk := k5_ h5
      clear ih hK hQ hSB hP hB hR
      rcases hk with h | h | h <;> (rw [h]; decide)
    refine b_150_15 (Tr_mono _) hV hW _ _ _ Mx1 ?_
    have sign : lv_ (Mx 70 a1) = 5 → V 42 [rr 1, ii (Mx 1 7), ii a, ii s1, none, none] [] Mx1 := by
      intro h5
      obtain ⟨hlv0, hany, hrw, hlt⟩ := pre h5
      rw [if_pos h5] at hS hS2
      refine b_150_42 (Tr_mono _) hV hW _ _ _ Mx1 ?_
      refine x_156 hER0.1.1 (Int.lt_of_le_of_lt hER0.1.2.1 (by decide)) hfl.1 hfl.2 ?_
      have hw9 : (0 : Int) = if sh_ (Mx 70 a1) = 25 ∨ sh_ (Mx 70 a1) = 26 then s1 else rw_ (sh_ (Mx 70 a1)) - 1 := by rw [if_neg hany, hrw]; rfl
      rw [← hM9_e (k := Mx 70 a1) hany (by rw [hrw]; rfl)]
      have hiM : iX_ (hM9 Mx1 (Mx 70 a1) s1 a) := by unfold iX_; rw [hM9_1 (by decide) (by decide) (by decide)]; exact hiX
      have e70M : hM9 Mx1 (Mx 70 a1) s1 a 70 (hM9 Mx1 (Mx 70 a1) s1 a 1 3) = Mx 70 a1 := by rw [hM9_1 (by decide) (by decide) (by decide), hM9_r (by decide)]; exact e70
      have fin : ∀ op : Int, op = xo9_ (sh_ (Mx 70 a1)) → V 81 [rr 1, ii (Mx 1 7), ii a, ii s1, ii op, none] [] (hM9 Mx1 (Mx 70 a1) s1 a) := by
        intro op hop
        refine b_150_81 (Tr_mono _) hV hW _ _ _ op _ ?_
        refine x_rt (n3 := nP n 1) hSB hR hP hB hc01 hlv0 (Int.le_of_eq h5) (by rw [h5]; decide) (by rw [h5]; exact htl) (fun h => absurd (h5.symm.trans h) (by decide)) (fun h => absurd h (by decide)) hw9 hop (fun h1 h2 => (hs1 h1 h2).elim .inl (fun h => .inr ⟨by rw [hrw]; exact h, hany⟩)) (fun h => gb_ne (hS h)) (fun t2 ht => ?_) ?_ hQ
        · rw [if_neg hany, hrw] at ht
          rw [ht.1, ht.2]
          unfold nP nU
          clear ih hK hQ hSB hP hB hR
          rw [if_pos rfl, if_pos rfl]; (clear hV hW htl hc01 hER0 hj hs1 hS hS2 hER hiX e70 ha1 hfl out pre h5 hlv0 hany hrw hlt hw9 hiM e70M hop ht; lia)
        · intro Mx4 Mq3 Ms4 a3 c3 bd4 y4 l4 h12 hP4 hB4 hS4 h13 h301 hNX
          rw [h5] at hB4 hNX
          rw [gb_eq h12 hS4] at hS hS2
          rw [hlt] at hP4
          have hc3 : c3 = c := hNX.2 (by decide)
          rw [hc3] at hP4 hB4 hNX
          skip
          exact ih _ _ _ a3 0 1 bd4 y4 l4 (by clear ih hK hQ hSB hP hB hR hP4 hB4; (clear hV hW htl hc01 hER0 hER hiX e70 hfl hrw hw9 hiM e70M hop hS2 hS4 hNX hc3; lia)) hP4 (fun _ _ => .inr rfl) hB4 hS hS2
      have hk := k5_ h5
      refine x_117 hiM (by decide) (by decide) (fun h9 => ?_) (fun h9 => ?_)
      · rw [if_neg (by decide)]; rw [e70M] at h9; exact fin 12 (by rw [h9]; decide)
      · rw [if_pos rfl]
        refine x_117 hiM (by decide) (by decide) (fun h8 => ?_) (fun h8 => ?_)
        · rw [if_neg (by decide)]; rw [e70M] at h8; exact fin 13 (by rw [h8]; decide)
        · rw [if_pos rfl]; rw [e70M] at h8 h9
          have h7 : Mx 70 a1 = 237 := by
            rcases hk with h | h | h
            · exact absurd h h9
            · exact absurd h h8
            · exact h
          exact fin 14 (by rw [h7]; decide)
    refine x_117 hiX (by decide) (by decide) (fun h9 => ?_) (fun h9 => ?_)
    · rw [if_neg (by decide)]; rw [e70] at h9; exact sign (by rw [h9]; decide)
    · rw [if_pos rfl]
      refine x_117 hiX (by decide) (by decide) (fun h8 => ?_) (fun h8 => ?_)
      · rw [if_neg (by decide)]; rw [e70] at h8; exact sign (by rw [h8]; decide)
      · rw [if_pos rfl]
        refine x_117 hiX (by decide) (by decide) (fun h7 => ?_) (fun h7 => ?_)
        · rw [if_neg (by decide)]; rw [e70] at h7; exact sign (by rw [h7]; decide)
        · rw [if_pos rfl]
          rw [e70] at h7 h8 h9
          refine out (fun h => ?_)
          rcases k5_ h with h6 | h6 | h6
          · exact h9 h6
          · exact h8 h6
          · exact h7 h6
theorem l_149 [Inhabited gh_] (hSB : SB 150 4 5 (nP n) (D + 3) dq o) (hV : Cl_ wd0 (Tr_ wd0 pg0 (D + 3)) V (ri_ K) Qt m_149) (hW : Wk_ V) (hR : PR b F Mx Mq a o sg ws c cm f fm cc cd) (htl : tl_ sg < 4)
    (hK : ∀ s Mx' Mq' Ms a' c' y t bd l, EP (nS n t) b F Mx Mq Mx' Ms a a' o sg ws c' cm f fm cc cd y s t bd l → (b = 1 → bd = 1 → s = -1) → QB dq 4 b Mq Mq' Ms a' sg c' cm f → ES (Mx 70) 3 o a = some a' → (c' = 0 ∨ c' = 1) → NX 4 (Mx 70 a') c c' → K s Mx')
    (hQ : b = 0 → ∀ Mx', XW dq 0 Mx Mq Mx' → Qt 8 Mx') :
    ∀ (j : Nat) (Mx1 Mq1 Ms : mm_) (a1 s1 t1 bd1 : Int) (y1 : List Int) (l1 : List (Int × Int)), (1201 - a1).toNat ≤ j → EP (nS n t1) b F Mx Mq Mx1 Ms a a1 o sg ws c cm f fm cc cd y1 s1 t1 bd1 l1 → (b = 1 → bd1 = 1 → s1 = -1 ∨ s1 = 0) → QB dq 4 b Mq Mq1 Ms a1 sg c cm f → NX 5 (Mx 70 a1) c c → (b = 1 → ES (Mx 70) 9 o a1 ≠ none) → ES (Mx 70) 3 o a = ES (Mx 70) 9 o a1 → V 15 [rr 1, ii (Mx 1 7), ii a, ii s1, none, none] [] Mx1 := by
  have hc01 : c = 0 ∨ c = 1 := hR.2.2.2.2.2.2.2.1
  have hER0 := hR.2.2.1
  intro j
  induction j with
  | zero =>
    intro Mx1 Mq1 Ms a1 s1 t1 bd1 y1 l1 hj hP
    have := hP.2.2.2.1.1.2.1
    clear hK hQ hSB
    (clear hV hW hR htl hc01 hER0 hP; lia)
  | succ j ih =>
    intro Mx1 Mq1 Ms a1 s1 t1 bd1 y1 l1 hj hP hs1 hB hN1 hS hS2
    have hER := hP.2.2.2.1
    have hiX := EP_iX hP
    have e70 := EP_70 hP
    have ha1 := ER_a hER
    have hfl := ER_fl hER
    rw [ES_9 ha1.1 ha1.2] at hS hS2
    have out : lv_ (Mx 70 a1) ≠ 4 → (if Mx1 1 7 ≤ Mx 1 7 then ri_ K [.inl s1] Mx1 else ri_ K [.inl (-1)] Mx1) := by
      intro h5
      rw [if_neg h5] at hS2
      have hp := EP_ret hP (s := if Mx1 1 7 ≤ Mx 1 7 then s1 else -1) rfl
      have hk := hK _ _ _ _ _ _ _ _ _ _ hp.1 hp.2 hB hS2 hc01 ?_
      · split
        · rename_i h; rw [if_pos h] at hk; exact ri_i hk
        · rename_i h; rw [if_neg h] at hk; exact ri_i hk
      · clear ih hK hQ hSB hP hB hp
        have h9 := lv_r (k := Mx 70 a1)
        refine ⟨fun h8 => ?_, fun h8 => ?_⟩
        · exact absurd h8 (fun h7 => by have h6 := hN1.1; omega)
        · rfl
    have pre : lv_ (Mx 70 a1) = 4 → lv_ (Mx 70 a1) ≠ 0 ∧ ¬ (sh_ (Mx 70 a1) = 25 ∨ sh_ (Mx 70 a1) = 26) ∧ rw_ (sh_ (Mx 70 a1)) = 1 ∧ (if sh_ (Mx 70 a1) < 25 then (1 : Int) else 2) = 1 := by
      intro h5
      have hk := k4_ h5
      clear ih hK hQ hSB hP hB hR
      rcases hk with h | h <;> (rw [h]; decide)
    refine b_149_15 (Tr_mono _) hV hW _ _ _ Mx1 ?_
    have sign : lv_ (Mx 70 a1) = 4 → Tr_ wd0 pg0 (D + 3) 156 [.inr (.inr 1), .inl s1, .inl 0, .inl a] Mx1 (rv_ fun M5 => Tr_ wd0 pg0 (D + 3) 117 [.inr (.inr 1), .inl 43] M5 (ri_ fun v4 M6 => (if v4 = 0 then V 58 [rr 1, ii (Mx 1 7), ii a, ii s1, ii 11, none] [] M6 else V 58 [rr 1, ii (Mx 1 7), ii a, ii s1, ii 10, none] [] M6)) Qt) Qt := by
      intro h5
      obtain ⟨hlv0, hany, hrw, hlt⟩ := pre h5
      rw [if_pos h5] at hS hS2
      refine x_156 hER0.1.1 (Int.lt_of_le_of_lt hER0.1.2.1 (by decide)) hfl.1 hfl.2 ?_
      have hw9 : (0 : Int) = if sh_ (Mx 70 a1) = 25 ∨ sh_ (Mx 70 a1) = 26 then s1 else rw_ (sh_ (Mx 70 a1)) - 1 := by rw [if_neg hany, hrw]; rfl
      rw [← hM9_e (k := Mx 70 a1) hany (by rw [hrw]; rfl)]
      have hiM : iX_ (hM9 Mx1 (Mx 70 a1) s1 a) := by unfold iX_; rw [hM9_1 (by decide) (by decide) (by decide)]; exact hiX
      have e70M : hM9 Mx1 (Mx 70 a1) s1 a 70 (hM9 Mx1 (Mx 70 a1) s1 a 1 3) = Mx 70 a1 := by rw [hM9_1 (by decide) (by decide) (by decide), hM9_r (by decide)]; exact e70
      have fin : ∀ op : Int, op = xo9_ (sh_ (Mx 70 a1)) → V 58 [rr 1, ii (Mx 1 7), ii a, ii s1, ii op, none] [] (hM9 Mx1 (Mx 70 a1) s1 a) := by
        intro op hop
        refine b_149_58 (Tr_mono _) hV hW _ _ _ op _ ?_
        refine x_rt (n3 := nS n 1) hSB hR hP hB hc01 hlv0 (Int.le_of_eq h5) (by rw [h5]; decide) (by rw [h5]; exact htl) (fun h => absurd (h5.symm.trans h) (by decide)) (fun h => absurd h (by decide)) hw9 hop (fun h1 h2 => (hs1 h1 h2).elim .inl (fun h => .inr ⟨by rw [hrw]; exact h, hany⟩)) (fun h => gb_ne (hS h)) (fun t2 ht => ?_) ?_ hQ
        · rw [if_neg hany, hrw] at ht
          rw [ht.1, ht.2]
          unfold nS nP
          clear ih hK hQ hSB hP hB hR
          rw [if_pos rfl, if_pos rfl]; (clear hV hW htl hc01 hER0 hj hs1 hN1 hS hS2 hER hiX e70 ha1 hfl out pre h5 hlv0 hany hrw hlt hw9 hiM e70M hop ht; lia)
        · intro Mx4 Mq3 Ms4 a3 c3 bd4 y4 l4 h12 hP4 hB4 hS4 h13 h301 hNX
          rw [h5] at hB4 hNX
          rw [gb_eq h12 hS4] at hS hS2
          rw [hlt] at hP4
          have hc3 : c3 = c := hNX.2 (by decide)
          rw [hc3] at hP4 hB4 hNX
          have hNX2 : NX 5 (Mx 70 a3) c c := ⟨hNX.1, fun _ => rfl⟩
          exact ih _ _ _ a3 0 1 bd4 y4 l4 (by clear ih hK hQ hSB hP hB hR hP4 hB4; (clear hV hW htl hc01 hER0 hN1 hER hiX e70 hfl hrw hw9 hiM e70M hop hS2 hS4 hNX hc3 hNX2; lia)) hP4 (fun _ _ => .inr rfl) hB4 hNX2 hS hS2
      have hk := k4_ h5
      refine x_117 hiM (by decide) (by decide) (fun h9 => ?_) (fun h9 => ?_)
      · rw [if_neg (by decide)]; rw [e70M] at h9; exact fin 10 (by rw [h9]; decide)
      · rw [if_pos rfl]; rw [e70M] at h9
        have h7 : Mx 70 a1 = 245 := hk.resolve_left h9
        exact fin 11 (by rw [h7]; decide)
    refine x_117 hiX (by decide) (by decide) (fun h9 => ?_) (fun h9 => ?_)
    · rw [if_neg (by decide)]; rw [e70] at h9; exact sign (by rw [h9]; decide)
    · rw [if_pos rfl]
      refine x_117 hiX (by decide) (by decide) (fun h8 => ?_) (fun h8 => ?_)
      · rw [if_neg (by decide)]; rw [e70] at h8; exact sign (by rw [h8]; decide)
      · rw [if_pos rfl]
        rw [e70] at h8 h9
        exact out (fun h => (k4_ h).elim h9 h8)
theorem l_147 [Inhabited gh_] (hSB : SB 148 2 3 (nR n) (D + 3) dq o) (hV : Cl_ wd0 (Tr_ wd0 pg0 (D + 3)) V (ri_ K) Qt m_147) (hW : Wk_ V) (hR : PR b F Mx Mq a o sg ws c cm f fm cc cd) (htl : tl_ sg < 2)
    (hK : ∀ s Mx' Mq' Ms a' c' y t bd l, EP (nC n t) b F Mx Mq Mx' Ms a a' o sg ws c' cm f fm cc cd y s t bd l → (b = 1 → bd = 1 → s = -1) → QB dq 2 b Mq Mq' Ms a' sg c' cm f → ES (Mx 70) 1 o a = some a' → (c' = 0 ∨ c' = 1) → NX 2 (Mx 70 a') c c' → K s Mx')
    (hQ : b = 0 → ∀ Mx', XW dq 0 Mx Mq Mx' → Qt 8 Mx') :
    ∀ (j : Nat) (Mx1 Mq1 Ms : mm_) (a1 s1 t1 bd1 : Int) (y1 : List Int) (l1 : List (Int × Int)) (c1 : Int), (1201 - a1).toNat ≤ j → EP (nC n t1) b F Mx Mq Mx1 Ms a a1 o sg ws c1 cm f fm cc cd y1 s1 t1 bd1 l1 → (b = 1 → bd1 = 1 → s1 = -1 ∨ s1 = 1) → QB dq 2 b Mq Mq1 Ms a1 sg c1 cm f → (c1 = 0 ∨ c1 = 1) → NX 3 (Mx 70 a1) 0 c1 → (b = 1 → ES (Mx 70) 8 o a1 ≠ none) → ES (Mx 70) 1 o a = ES (Mx 70) 8 o a1 → V 15 [rr 1, ii (Mx 1 7), ii a, ii s1, none] [] Mx1 := by
  have hc01 : c = 0 ∨ c = 1 := hR.2.2.2.2.2.2.2.1
  have hER0 := hR.2.2.1
  intro j
  induction j with
  | zero =>
    intro Mx1 Mq1 Ms a1 s1 t1 bd1 y1 l1 c1 hj hP
    have := hP.2.2.2.1.1.2.1
    clear hK hQ hSB
    (clear hV hW hR htl hc01 hER0 hP; lia)
  | succ j ih =>
    intro Mx1 Mq1 Ms a1 s1 t1 bd1 y1 l1 c1 hj hP hs1 hB h101 hN1 hS hS2
    have hER := hP.2.2.2.1
    have hiX := EP_iX hP
    have e70 := EP_70 hP
    have ha1 := ER_a hER
    have hfl := ER_fl hER
    rw [ES_8 ha1.1 ha1.2] at hS hS2
    have out : lv_ (Mx 70 a1) ≠ 2 → (if Mx1 1 7 ≤ Mx 1 7 then ri_ K [.inl s1] Mx1 else ri_ K [.inl (-1)] Mx1) := by
      intro h5
      rw [if_neg h5] at hS2
      have hp := EP_ret hP (s := if Mx1 1 7 ≤ Mx 1 7 then s1 else -1) rfl
      have hk := hK _ _ _ _ _ _ _ _ _ _ hp.1 hp.2 hB hS2 h101 ?_
      · split
        · rename_i h; rw [if_pos h] at hk; exact ri_i hk
        · rename_i h; rw [if_neg h] at hk; exact ri_i hk
      · clear ih hK hQ hSB hP hB hp
        have h9 := lv_r (k := Mx 70 a1)
        refine ⟨fun h8 => ?_, fun h8 => ?_⟩
        · by_cases h7 : 3 ≤ lv_ (Mx 70 a1)
          · have := hN1.1 h7
            exact ⟨this.1, by decide, this.2.2⟩
          · exact absurd h8 (by (clear hV hW hR htl hc01 hER0 hj hs1 h101 hN1 hS hS2 hER hiX e70 ha1 hfl; lia))
        · exact absurd h8 (by decide)
    have pre : lv_ (Mx 70 a1) = 2 → lv_ (Mx 70 a1) ≠ 0 ∧ ¬ (sh_ (Mx 70 a1) = 25 ∨ sh_ (Mx 70 a1) = 26) ∧ rw_ (sh_ (Mx 70 a1)) = 2 ∧ (if sh_ (Mx 70 a1) < 25 then (1 : Int) else 2) = 2 := by
      intro h5
      have hk := k2_ h5
      clear ih hK hQ hSB hP hB hR
      have h := hk
      rw [h]; decide
    refine b_147_15 (Tr_mono _) hV hW _ _ _ Mx1 ?_
    refine x_103 hiX (fun h9 => ?_) (fun h9 => ?_)
    · rw [if_neg (by decide)]
      rw [e70] at h9
      have h5 : lv_ (Mx 70 a1) = 2 := by rw [h9]; decide
      obtain ⟨hlv0, hany, hrw, hlt⟩ := pre h5
      rw [if_pos h5] at hS hS2
      refine x_156 hER0.1.1 (Int.lt_of_le_of_lt hER0.1.2.1 (by decide)) hfl.1 hfl.2 ?_
      have hw9 : (1 : Int) = if sh_ (Mx 70 a1) = 25 ∨ sh_ (Mx 70 a1) = 26 then s1 else rw_ (sh_ (Mx 70 a1)) - 1 := by rw [if_neg hany, hrw]; rfl
      rw [← hM9_e (k := Mx 70 a1) hany (by rw [hrw]; rfl)]
      have hop : (17 : Int) = xo9_ (sh_ (Mx 70 a1)) := by rw [h9]; decide
      · refine x_rt (n3 := nC n 2) hSB hR hP hB h101 hlv0 (Int.le_of_eq h5) (by rw [h5]; decide) (by rw [h5]; exact htl) (fun h => absurd (h5.symm.trans h) (by decide)) (fun _ => by rw [h5]; rfl) hw9 hop (fun h1 h2 => (hs1 h1 h2).elim .inl (fun h => .inr ⟨by rw [hrw]; exact h, hany⟩)) (fun h => gb_ne (hS h)) (fun t2 ht => ?_) ?_ hQ
        · rw [if_neg hany, hrw] at ht
          rw [ht.1, ht.2]
          unfold nC nR
          clear ih hK hQ hSB hP hB hR
          rw [if_neg (by decide), if_neg (by decide)]; (clear hV hW htl hc01 hER0 hj hs1 h101 hN1 hS hS2 hER hiX e70 ha1 hfl out pre h9 h5 hlv0 hany hrw hlt hw9 hop ht; lia)
        · intro Mx4 Mq3 Ms4 a3 c3 bd4 y4 l4 h12 hP4 hB4 hS4 h13 h301 hNX
          rw [h5] at hB4 hNX
          rw [gb_eq h12 hS4] at hS hS2
          rw [hlt] at hP4
          skip
          skip
          skip
          exact ih _ _ _ a3 1 2 bd4 y4 l4 c3 (by clear ih hK hQ hSB hP hB hR hP4 hB4; (clear hV hW htl hc01 hER0 hN1 hER hiX e70 hfl h9 hrw hw9 hop hS2 hS4 hNX; lia)) hP4 (fun _ _ => .inr rfl) hB4 h301 hNX hS hS2
    · rw [if_pos rfl]
      rw [e70] at h9
      exact out (fun h => h9 (k2_ h))
theorem l_146 [Inhabited gh_] (hSB : SB 147 1 2 (nC n) (D + 3) dq o) (hV : Cl_ wd0 (Tr_ wd0 pg0 (D + 3)) V (ri_ K) Qt m_146) (hW : Wk_ V) (hR : PR b F Mx Mq a o sg ws c cm f fm cc cd) (htl : tl_ sg < 1)
    (hK : ∀ s Mx' Mq' Ms a' c' y t bd l, EP (nE n t) b F Mx Mq Mx' Ms a a' o sg ws c' cm f fm cc cd y s t bd l → (b = 1 → bd = 1 → s = -1) → QB dq 1 b Mq Mq' Ms a' sg c' cm f → ES (Mx 70) 0 o a = some a' → (c' = 0 ∨ c' = 1) → NX 1 (Mx 70 a') c c' → K s Mx')
    (hQ : b = 0 → ∀ Mx', XW dq 0 Mx Mq Mx' → Qt 8 Mx') :
    ∀ (j : Nat) (Mx1 Mq1 Ms : mm_) (a1 s1 t1 bd1 : Int) (y1 : List Int) (l1 : List (Int × Int)) (c1 : Int), (1201 - a1).toNat ≤ j → EP (nE n t1) b F Mx Mq Mx1 Ms a a1 o sg ws c1 cm f fm cc cd y1 s1 t1 bd1 l1 → (b = 1 → bd1 = 1 → s1 = -1 ∨ s1 = 1) → QB dq 1 b Mq Mq1 Ms a1 sg c1 cm f → (c1 = 0 ∨ c1 = 1) → NX 2 (Mx 70 a1) 0 c1 → (b = 1 → ES (Mx 70) 7 o a1 ≠ none) → ES (Mx 70) 0 o a = ES (Mx 70) 7 o a1 → V 15 [rr 1, ii (Mx 1 7), ii a, ii s1, none] [] Mx1 := by
  have hc01 : c = 0 ∨ c = 1 := hR.2.2.2.2.2.2.2.1
  have hER0 := hR.2.2.1
  intro j
  induction j with
  | zero =>
    intro Mx1 Mq1 Ms a1 s1 t1 bd1 y1 l1 c1 hj hP
    have := hP.2.2.2.1.1.2.1
    clear hK hQ hSB
    (clear hV hW hR htl hc01 hER0 hP; lia)
  | succ j ih =>
    intro Mx1 Mq1 Ms a1 s1 t1 bd1 y1 l1 c1 hj hP hs1 hB h101 hN1 hS hS2
    have hER := hP.2.2.2.1
    have hiX := EP_iX hP
    have e70 := EP_70 hP
    have ha1 := ER_a hER
    have hfl := ER_fl hER
    rw [ES_7 ha1.1 ha1.2] at hS hS2
    have out : lv_ (Mx 70 a1) ≠ 1 → (if Mx1 1 7 ≤ Mx 1 7 then ri_ K [.inl s1] Mx1 else ri_ K [.inl (-1)] Mx1) := by
      intro h5
      rw [if_neg h5] at hS2
      have hp := EP_ret hP (s := if Mx1 1 7 ≤ Mx 1 7 then s1 else -1) rfl
      have hk := hK _ _ _ _ _ _ _ _ _ _ hp.1 hp.2 hB hS2 h101 ?_
      · split
        · rename_i h; rw [if_pos h] at hk; exact ri_i hk
        · rename_i h; rw [if_neg h] at hk; exact ri_i hk
      · clear ih hK hQ hSB hP hB hp
        have h9 := lv_r (k := Mx 70 a1)
        refine ⟨fun h8 => ?_, fun h8 => ?_⟩
        · by_cases h7 : 2 ≤ lv_ (Mx 70 a1)
          · have := hN1.1 h7
            exact ⟨this.1, by decide, this.2.2⟩
          · exact absurd h8 (by (clear hV hW hR htl hc01 hER0 hj hs1 h101 hN1 hS hS2 hER hiX e70 ha1 hfl; lia))
        · exact absurd h8 (by decide)
    have pre : lv_ (Mx 70 a1) = 1 → lv_ (Mx 70 a1) ≠ 0 ∧ ¬ (sh_ (Mx 70 a1) = 25 ∨ sh_ (Mx 70 a1) = 26) ∧ rw_ (sh_ (Mx 70 a1)) = 2 ∧ (if sh_ (Mx 70 a1) < 25 then (1 : Int) else 2) = 2 := by
      intro h5
      have hk := k1_ h5
      clear ih hK hQ hSB hP hB hR
      have h := hk
      rw [h]; decide
    refine b_146_15 (Tr_mono _) hV hW _ _ _ Mx1 ?_
    refine x_103 hiX (fun h9 => ?_) (fun h9 => ?_)
    · rw [if_neg (by decide)]
      rw [e70] at h9
      have h5 : lv_ (Mx 70 a1) = 1 := by rw [h9]; decide
      obtain ⟨hlv0, hany, hrw, hlt⟩ := pre h5
      rw [if_pos h5] at hS hS2
      refine x_156 hER0.1.1 (Int.lt_of_le_of_lt hER0.1.2.1 (by decide)) hfl.1 hfl.2 ?_
      have hw9 : (1 : Int) = if sh_ (Mx 70 a1) = 25 ∨ sh_ (Mx 70 a1) = 26 then s1 else rw_ (sh_ (Mx 70 a1)) - 1 := by rw [if_neg hany, hrw]; rfl
      rw [← hM9_e (k := Mx 70 a1) hany (by rw [hrw]; rfl)]
      have hop : (18 : Int) = xo9_ (sh_ (Mx 70 a1)) := by rw [h9]; decide
      · refine x_rt (n3 := nE n 2) hSB hR hP hB h101 hlv0 (Int.le_of_eq h5) (by rw [h5]; decide) (by rw [h5]; exact htl) (fun h => absurd (h5.symm.trans h) (by decide)) (fun _ => by rw [h5]; rfl) hw9 hop (fun h1 h2 => (hs1 h1 h2).elim .inl (fun h => .inr ⟨by rw [hrw]; exact h, hany⟩)) (fun h => gb_ne (hS h)) (fun t2 ht => ?_) ?_ hQ
        · rw [if_neg hany, hrw] at ht
          rw [ht.1, ht.2]
          unfold nE nC
          clear ih hK hQ hSB hP hB hR
          rw [if_neg (by decide), if_neg (by decide)]; (clear hV hW htl hc01 hER0 hj hs1 h101 hN1 hS hS2 hER hiX e70 ha1 hfl out pre h9 h5 hlv0 hany hrw hlt hw9 hop ht; lia)
        · intro Mx4 Mq3 Ms4 a3 c3 bd4 y4 l4 h12 hP4 hB4 hS4 h13 h301 hNX
          rw [h5] at hB4 hNX
          rw [gb_eq h12 hS4] at hS hS2
          rw [hlt] at hP4
          skip
          skip
          skip
          exact ih _ _ _ a3 1 2 bd4 y4 l4 c3 (by clear ih hK hQ hSB hP hB hR hP4 hB4; (clear hV hW htl hc01 hER0 hN1 hER hiX e70 hfl h9 hrw hw9 hop hS2 hS4 hNX; lia)) hP4 (fun _ _ => .inr rfl) hB4 h301 hNX hS hS2
    · rw [if_pos rfl]
      rw [e70] at h9
      exact out (fun h => h9 (k1_ h))
theorem x_150 [Inhabited gh_] (hSB : SB 151 5 6 (nU n) (D + 3) dq o) : SB 150 4 5 (nP n) (D + 4) dq o := by
  intro b F Mx Mq a sg ws c cm f fm cc cd K Qt hR hnp htl hc3 hS hK hQ
  refine t_150 fun V hV hW => b_150_0 (Tr_mono _) hV hW Mx ?_
  have hER := hR.2.2.1
  have h4 := ES_4 (κ := Mx 70) (o := o) (a := a) hER.1.1 hER.1.2.1
  refine hSB b F Mx Mq a sg ws c cm f fm cc cd _ _ hR hnp (Int.lt_of_lt_of_le htl (by decide)) (fun h => absurd h (by decide)) (fun h h9 => hS h (by rw [h4, h9]; rfl)) ?_ hQ
  intro s Mx1 Mq1 Ms a1 c1 y1 t1 bd1 l1 hP hs hB hS5 h101 hNX
  rw [hER.2.1]
  have hw : nU n t1 ≤ nP n t1 := by clear hK hQ hSB; unfold nU nP; split <;> (clear hR hnp htl hc3 hS hV hW hER h4 hP hs hB hS5 h101 hNX; lia)
  rw [hS5] at h4
  have hB' : QB dq 5 b Mq Mq1 Ms a1 sg c1 cm f := ⟨hB.1, Red_le hB.2.1 (by decide), hB.2.2⟩
  have hcc : c1 = c := hNX.2 (by decide)
  rw [hcc] at hP hB'
  exact l_150 hSB hV hW hR htl hK hQ _ _ _ _ a1 s t1 bd1 _ _ (Nat.le_refl _) (EP_weak hP hw) (fun h1 h2 => .inl (hs h1 h2)) hB' (fun h h9 => hS h (by rw [h4]; exact h9)) h4
theorem x_149 [Inhabited gh_] (hSB : SB 150 4 5 (nP n) (D + 3) dq o) : SB 149 3 4 (nS n) (D + 4) dq o := by
  intro b F Mx Mq a sg ws c cm f fm cc cd K Qt hR hnp htl hc3 hS hK hQ
  refine t_149 fun V hV hW => b_149_0 (Tr_mono _) hV hW Mx ?_
  have hER := hR.2.2.1
  have h4 := ES_3 (κ := Mx 70) (o := o) (a := a) hER.1.1 hER.1.2.1
  refine hSB b F Mx Mq a sg ws c cm f fm cc cd _ _ hR hnp (Int.lt_of_lt_of_le htl (by decide)) (fun h => absurd h (by decide)) (fun h h9 => hS h (by rw [h4, h9]; rfl)) ?_ hQ
  intro s Mx1 Mq1 Ms a1 c1 y1 t1 bd1 l1 hP hs hB hS5 h101 hNX
  rw [hER.2.1]
  have hw : nP n t1 ≤ nS n t1 := by clear hK hQ hSB; unfold nP nS; split <;> omega
  rw [hS5] at h4
  have hB' : QB dq 4 b Mq Mq1 Ms a1 sg c1 cm f := ⟨hB.1, Red_le hB.2.1 (by decide), hB.2.2⟩
  have hcc : c1 = c := hNX.2 (by decide)
  rw [hcc] at hP hB'
  exact l_149 hSB hV hW hR htl hK hQ _ _ _ _ a1 s t1 bd1 _ _ (Nat.le_refl _) (EP_weak hP hw) (fun h1 h2 => .inl (hs h1 h2)) hB' ⟨fun h => by have := hNX.1 h; rw [hcc] at this; exact this, fun _ => rfl⟩ (fun h h9 => hS h (by rw [h4]; exact h9)) h4
theorem x_147 [Inhabited gh_] (hSB : SB 148 2 3 (nR n) (D + 3) dq o) : SB 147 1 2 (nC n) (D + 4) dq o := by
  intro b F Mx Mq a sg ws c cm f fm cc cd K Qt hR hnp htl hc3 hS hK hQ
  refine t_147 fun V hV hW => b_147_0 (Tr_mono _) hV hW Mx ?_
  have hER := hR.2.2.1
  have h4 := ES_1 (κ := Mx 70) (o := o) (a := a) hER.1.1 hER.1.2.1
  refine hSB b F Mx Mq a sg ws c cm f fm cc cd _ _ hR hnp (Int.lt_of_lt_of_le htl (by decide)) (fun _ => hc3 (by decide)) (fun h h9 => hS h (by rw [h4, h9]; rfl)) ?_ hQ
  intro s Mx1 Mq1 Ms a1 c1 y1 t1 bd1 l1 hP hs hB hS5 h101 hNX
  rw [hER.2.1]
  have hw : nR n t1 ≤ nC n t1 := by clear hK hQ hSB; unfold nR nC; split <;> (clear hR hnp htl hc3 hS hV hW hER h4 hP hs hB hS5 h101 hNX; lia)
  rw [hS5] at h4
  have hB' : QB dq 2 b Mq Mq1 Ms a1 sg c1 cm f := ⟨hB.1, Red_le hB.2.1 (by decide), hB.2.2⟩
  have hc0 : c = 0 := hc3 (by decide)
  rw [hc0] at hNX
  exact l_147 hSB hV hW hR htl hK hQ _ _ _ _ a1 s t1 bd1 _ _ c1 (Nat.le_refl _) (EP_weak hP hw) (fun h1 h2 => .inl (hs h1 h2)) hB' h101 hNX (fun h h9 => hS h (by rw [h4]; exact h9)) h4
theorem x_146 [Inhabited gh_] (hSB : SB 147 1 2 (nC n) (D + 3) dq o) : SB 146 0 1 (nE n) (D + 4) dq o := by
  intro b F Mx Mq a sg ws c cm f fm cc cd K Qt hR hnp htl hc3 hS hK hQ
  refine t_146 fun V hV hW => b_146_0 (Tr_mono _) hV hW Mx ?_
  have hER := hR.2.2.1
  have h4 := ES_0 (κ := Mx 70) (o := o) (a := a) hER.1.1 hER.1.2.1
  refine hSB b F Mx Mq a sg ws c cm f fm cc cd _ _ hR hnp (Int.lt_of_lt_of_le htl (by decide)) (fun _ => hc3 (by decide)) (fun h h9 => hS h (by rw [h4, h9]; rfl)) ?_ hQ
  intro s Mx1 Mq1 Ms a1 c1 y1 t1 bd1 l1 hP hs hB hS5 h101 hNX
  rw [hER.2.1]
  have hw : nC n t1 ≤ nE n t1 := by clear hK hQ hSB; unfold nC nE; split <;> omega
  rw [hS5] at h4
  have hB' : QB dq 1 b Mq Mq1 Ms a1 sg c1 cm f := ⟨hB.1, Red_le hB.2.1 (by decide), hB.2.2⟩
  have hc0 : c = 0 := hc3 (by decide)
  rw [hc0] at hNX
  exact l_146 hSB hV hW hR htl hK hQ _ _ _ _ a1 s t1 bd1 _ _ c1 (Nat.le_refl _) (EP_weak hP hw) (fun h1 h2 => .inl (hs h1 h2)) hB' h101 hNX (fun h h9 => hS h (by rw [h4]; exact h9)) h4
end LO
end T77_er
section T78_er
/-! rel -/
theorem gb_ne2 [Inhabited gh_] {a : Int} {E : Int → Option Int} (h : (gS a).bind E ≠ none) : a < 1200 ∧ E (a + 1) ≠ none := by
  by_cases c : a < 1200
  · refine ⟨c, fun h2 => h ?_⟩
    unfold gS; rw [if_pos c]
    exact h2
  · exact absurd (by unfold gS; rw [if_neg c]; rfl) h
theorem gb_eq2 [Inhabited gh_] {a : Int} {E : Int → Option Int} (h : a < 1200) : (gS a).bind E = E (a + 1) := by
  unfold gS; rw [if_pos h]; rfl
section RE
variable {dq D n : Nat} {b F : Int} {Mx Mq : mm_} {a o : Int} {sg : List (Int × Int)} {ws : List (Int × Int × Int)} {c : Int} {cm : List Int} {f : Int} {fm : List (Int × Int)} {cc : Int} {cd : List Int} {K : Int → mm_ → Prop} {Qt : qt_} {V : vv_}
theorem sh3_ [Inhabited gh_] {k : Int} (h : lv_ k = 3) : 25 ≤ sh_ k ∧ sh_ k ≤ 30 ∧ rw_ (sh_ k) = 1 := by
  rcases k3_ h with h | h | h | h | h | h <;> (rw [h]; decide)
theorem x_148 [Inhabited gh_] (hSB : SB 149 3 4 (nS n) (D + 3) dq o) : SB 148 2 3 (nR n) (D + 4) dq o := by
  intro b F Mx Mq a sg ws c cm f fm cc cd K Qt hR hnp htl hc3 hS hK hQ
  have hc0 : c = 0 := hc3 (by decide)
  have hER0 := hR.2.2.1
  have h4 := ES_2 (κ := Mx 70) (o := o) (a := a) hER0.1.1 hER0.1.2.1
  refine t_148 fun V hV hW => b_148_0 (Tr_mono _) hV hW Mx ?_
  refine hSB b F Mx Mq a sg ws c cm f fm cc cd _ _ hR hnp (Int.lt_of_lt_of_le htl (by decide)) (fun h => absurd h (by decide)) (fun h h9 => hS h (by rw [h4, h9]; rfl)) ?_ hQ
  intro s1 Mx1 Mq1 Ms a1 c1 y1 t1 bd1 l1 hP hs hB hS5 h101 hNX
  have hcc : c1 = c := hNX.2 (by decide)
  rw [hcc] at hP hB hNX
  rw [hER0.2.1]
  rw [hS5] at h4
  change ES (Mx 70) 2 o a = (if lv_ (Mx 70 a1) = 3 then (gS a1).bind (ES (Mx 70) 3 o) else some a1) at h4
  have hER := hP.2.2.2.1
  have hiX := EP_iX hP
  have e70 := EP_70 hP
  have hfl := ER_fl hER
  have hlr := lv_r (k := Mx 70 a1)
  have c01 : c = 0 ∨ c = 1 := .inl hc0
  -- no sign
  have none9 : lv_ (Mx 70 a1) ≠ 3 → V 102 [rr 1, ii (Mx 1 7), ii a, ii s1, ii (-1), none, none, none] [] Mx1 := by
    intro h3
    rw [if_neg h3] at h4
    refine b_148_102 (Tr_mono _) hV hW _ _ _ _ Mx1 ?_
    rw [if_pos rfl]
    refine ri_i (hK s1 Mx1 Mq1 Ms a1 c y1 t1 bd1 l1 (EP_weak hP ?_) hs ⟨hB.1, Red_le hB.2.1 (by decide), hB.2.2⟩ h4 c01 ⟨fun h8 => ?_, fun h8 => absurd h8 (by decide)⟩)
    · clear hK hQ hSB hP hB; unfold nS nR; split <;> (clear hR hnp htl hc3 hS hc0 hER0 hV hW hs hS5 h101 hNX hcc h4 hER hiX e70 hfl hlr c01 h3; lia)
    · have h6 := hNX.1
      clear hK hQ hSB hP hB hNX
      by_cases h7 : 4 ≤ lv_ (Mx 70 a1)
      · have := (h6 h7).2.1; (clear hR hnp htl hc3 hS hc0 hER0 hV hW hs hS5 h101 hcc h4 hER hiX e70 hfl hlr c01 h3 h8 h6 h7; lia)
      · (clear hR hnp htl hc3 hS hER0 hV hW hs hS5 h101 hcc h4 hER hiX e70 hfl c01; lia)
  -- a sign
  have sign : ∀ op : Int, lv_ (Mx 70 a1) = 3 → op = xo9_ (sh_ (Mx 70 a1)) → V 102 [rr 1, ii (Mx 1 7), ii a, ii s1, ii op, none, none, none] [] Mx1 := by
    intro op h3 hop
    obtain ⟨r1, r2, hrw⟩ := sh3_ h3
    have hopr : op = sh_ (Mx 70 a1) - 6 := by
      rw [hop]; unfold xo9_
      rw [if_neg (by clear hK hQ hSB hP hB; (clear hR hnp htl hc3 hS hc0 hER0 hV hW hs hS5 h101 hNX hcc h4 hER hiX e70 hfl hlr c01 none9 h3 hop hrw; omega)), if_pos (by clear hK hQ hSB hP hB; (clear hR hnp htl hc3 hS hc0 hER0 hV hW hs hS5 h101 hNX hcc h4 hER hiX e70 hfl hlr c01 none9 h3 hop hrw; omega))]
    have hopr2 : 19 ≤ op ∧ op ≤ 24 ∧ (op = 19 ↔ sh_ (Mx 70 a1) = 25) ∧ (op = 20 ↔ sh_ (Mx 70 a1) = 26) := by clear hK hQ hSB hP hB hop; (clear hR hnp htl hc3 hS hc0 hER0 hV hW hs hS5 h101 hNX hcc h4 hER hiX e70 hfl hlr c01 none9 h3 hrw; omega)
    have hlt : (if sh_ (Mx 70 a1) < 25 then (1 : Int) else 2) = 2 := if_neg (by clear hK hQ hSB hP hB hop; (clear hR hnp htl hc3 hS hc0 hER0 hV hW hs hS5 h101 hNX hcc h4 hER hiX e70 hfl hlr c01 none9 h3 hrw hopr2; lia))
    have hlv0 : lv_ (Mx 70 a1) ≠ 0 := by rw [h3]; decide
    rw [if_pos h3] at h4
    -- the rest, by what is wanted of the right part
    have rest : ∀ (x5 w : Int), (if x5 = 0 then w = 0 else w = s1) → (x5 = 0 ∨ x5 = 1) → w = (if sh_ (Mx 70 a1) = 25 ∨ sh_ (Mx 70 a1) = 26 then s1 else rw_ (sh_ (Mx 70 a1)) - 1) → V 143 [rr 1, ii (Mx 1 7), ii a, ii s1, ii op, ii x5, none, none] [] (hM9 Mx1 (Mx 70 a1) s1 a) := by
      intro x5 w hxw hx5 hw
      refine b_148_143 (Tr_mono _) hV hW _ _ _ _ _ _ ?_
      have key := x_rt (m := 149) (nt2 := 3) (lev2 := 4) (nd := nS n) (n3 := nR n 2) (op := op) (w := w) (G := fun M4 => (if M4 1 7 ≤ Mx 1 7 then ri_ K [.inl 1] M4 else ri_ K [.inl (-1)] M4)) hSB hR hP hB c01 hlv0 (by rw [h3]; decide) (by rw [h3]; decide) (by rw [h3]; exact htl) (fun _ => hc0) (fun h => absurd h (by decide)) hw hop (fun h1 h2 => .inl (hs h1 h2)) (fun h => gb_ne2 (by have := hS h; rw [h4] at this; exact this)) (fun t2 ht => ?_) ?_ hQ
      · rcases hx5 with h | h
        · rw [if_pos h] at hxw
          rw [h]; rw [hxw] at key; exact key
        · rw [if_neg (by rw [h]; decide)] at hxw
          rw [h]; rw [hxw] at key; exact key
      · clear hK hQ hSB hP hB hop hR hER
        unfold nS nR
        rw [if_neg (show ¬ (2 : Int) = 1 by decide)]
        split
        · split <;> (clear hnp htl hc3 hS hc0 hER0 hV hW hs hS5 h101 hNX hcc h4 hiX e70 hfl hlr c01 none9 h3 r1 r2 hrw hopr hopr2 hlt hlv0 hxw hx5 hw ht; lia)
        · split <;> (clear hnp htl hc3 hS hc0 hER0 hV hW hs hS5 h101 hNX hcc h4 hiX e70 hfl hlr c01 none9 h3 r1 r2 hrw hopr hopr2 hlt hlv0 hxw hx5 hw ht; lia)
      · intro Mx4 Mq3 Ms4 a3 c3 bd4 y4 l4 h12 hP4 hB4 hS4 h13 h301 hNX4
        rw [h3] at hB4 hNX4
        rw [hlt] at hP4
        rw [gb_eq2 h12] at h4
        have hp := EP_ret hP4 (s := if Mx4 1 7 ≤ Mx 1 7 then 1 else -1) rfl
        have hk := hK _ _ _ _ _ _ _ _ _ _ hp.1 hp.2 hB4 (h4.trans hS4) h301 ⟨fun h8 => ?_, fun h8 => absurd h8 (by decide)⟩
        · show (if Mx4 1 7 ≤ Mx 1 7 then ri_ K [.inl 1] Mx4 else ri_ K [.inl (-1)] Mx4)
          split
          · rename_i h; rw [if_pos h] at hk; exact ri_i hk
          · rename_i h; rw [if_neg h] at hk; exact ri_i hk
        · have h6 := hNX4.1
          have h7 : c3 = 1 := hNX4.2 (by decide)
          have h9 := lv_r (k := Mx 70 a3)
          clear hK hQ hSB hP hB hNX hP4 hB4 hp hR
          by_cases h5 : 4 ≤ lv_ (Mx 70 a3)
          · have := (h6 h5).2.1; omega
          · exact ⟨by (clear hnp htl hc3 hS hc0 hER0 hV hW hs hS5 h101 hcc h4 hER hiX e70 hfl hlr c01 none9 h3 hop r1 r2 hrw hopr hopr2 hlt hlv0 hxw hx5 hw h12 hS4 h13 h301 hNX4 h6 h7; lia), by decide, h7⟩
    refine b_148_102 (Tr_mono _) hV hW _ _ _ _ Mx1 ?_
    have hne : op ≠ -1 := by have := hopr2.1; clear hK hQ hSB hP hB; (clear hR hnp htl hc3 hS hc0 hER0 hV hW hs hS5 h101 hNX hcc h4 hER hiX e70 hfl hlr c01 none9 h3 hrw hopr2 hlt hlv0 rest this; lia)
    rw [if_neg hne]
    by_cases g1 : op = 19
    · rw [if_pos g1, if_neg (by decide)]
      have any : sh_ (Mx 70 a1) = 25 ∨ sh_ (Mx 70 a1) = 26 := .inl (hopr2.2.2.1.mp g1)
      have := rest 1 s1 (by rw [if_neg (by decide)]) (.inr rfl) (by rw [if_pos any])
      rw [show hM9 Mx1 (Mx 70 a1) s1 a = Mx1 from by unfold hM9; rw [if_pos any]] at this
      exact this
    · rw [if_neg g1]
      by_cases g2 : op = 20
      · rw [if_pos g2, if_neg (by decide)]
        have any : sh_ (Mx 70 a1) = 25 ∨ sh_ (Mx 70 a1) = 26 := .inr (hopr2.2.2.2.mp g2)
        have := rest 1 s1 (by rw [if_neg (by decide)]) (.inr rfl) (by rw [if_pos any])
        rw [show hM9 Mx1 (Mx 70 a1) s1 a = Mx1 from by unfold hM9; rw [if_pos any]] at this
        exact this
      · rw [if_neg g2, if_pos rfl]
        have nany : ¬ (sh_ (Mx 70 a1) = 25 ∨ sh_ (Mx 70 a1) = 26) := fun h => h.elim (fun h => g1 (hopr2.2.2.1.mpr h)) (fun h => g2 (hopr2.2.2.2.mpr h))
        refine x_156 hER0.1.1 (Int.lt_of_le_of_lt hER0.1.2.1 (by decide)) hfl.1 hfl.2 ?_
        have := rest 0 0 (by rw [if_pos rfl]) (.inl rfl) (by rw [if_neg nany, hrw]; rfl)
        rw [hM9_e (w := 0) nany (by rw [hrw]; rfl)] at this
        exact this
  refine x_117 hiX (by decide) (by decide) (fun h9 => ?_) (fun h9 => ?_)
  · rw [if_neg (by decide)]; rw [e70] at h9; exact sign 19 (by rw [h9]; decide) (by rw [h9]; decide)
  rw [if_pos rfl]
  refine x_103 hiX (fun g9 => ?_) (fun g9 => ?_)
  · rw [if_neg (by decide)]; rw [e70] at g9; exact sign 20 (by rw [g9]; decide) (by rw [g9]; decide)
  rw [if_pos rfl]
  refine x_117 hiX (by decide) (by decide) (fun i9 => ?_) (fun i9 => ?_)
  · rw [if_neg (by decide)]; rw [e70] at i9; exact sign 21 (by rw [i9]; decide) (by rw [i9]; decide)
  rw [if_pos rfl]
  refine x_103 hiX (fun j9 => ?_) (fun j9 => ?_)
  · rw [if_neg (by decide)]; rw [e70] at j9; exact sign 22 (by rw [j9]; decide) (by rw [j9]; decide)
  rw [if_pos rfl]
  refine x_117 hiX (by decide) (by decide) (fun k9 => ?_) (fun k9 => ?_)
  · rw [if_neg (by decide)]; rw [e70] at k9; exact sign 23 (by rw [k9]; decide) (by rw [k9]; decide)
  rw [if_pos rfl]
  refine x_103 hiX (fun m9 => ?_) (fun m9 => ?_)
  · rw [if_neg (by decide)]; rw [e70] at m9; exact sign 24 (by rw [m9]; decide) (by rw [m9]; decide)
  rw [if_pos rfl]
  rw [e70] at h9 g9 i9 j9 k9 m9
  refine none9 (fun h => ?_)
  rcases k3_ h with h | h | h | h | h | h
  · exact h9 h
  · exact g9 h
  · exact i9 h
  · exact j9 h
  · exact k9 h
  · exact m9 h
end RE
end T78_er
section T79_er
/-! the first parts of e's: how X and Q stay in step -/
section SP
variable {dq D n d : Nat} {b F : Int} {Mx Mq Mx' Mq' M : mm_} {a o : Int} {sg : List (Int × Int)} {ws : List (Int × Int × Int)} {c : Int} {cm : List Int} {f : Int} {fm : List (Int × Int)} {cc : Int} {cd : List Int} {K : Int → mm_ → Prop} {Kv : mm_ → Prop} {Qr : qr_} {Qt : qt_} {V : vv_}
/-- Q's scalars are the same -/
theorem ER_Q [Inhabited gh_] (h : ER b F Mx Mq a o) (e12 : Mq' 6 12 = Mq 6 12) (e13 : Mq' 6 13 = Mq 6 13) (e14 : Mq' 6 14 = Mq 6 14) (e15 : Mq' 6 15 = Mq 6 15) (e16 : Mq' 6 16 = Mq 6 16) : ER b F Mx Mq' a o := by
  unfold ER NR at *
  rw [e12, e13, e14, e15, e16]; exact h
theorem ER_go [Inhabited gh_] (h : ER b F Mx Mq a o) (h12 : a < 1200) (hk : Mx 70 a ≠ 102 ∧ Mx 70 a ≠ 103) : ER b F (nX_ Mx) (nx_ Mq) (a + 1) o ∧ (nX_ Mx) 5 3 + 9 ≤ 9 * (a + 1) + 1000 ∧ (nX_ Mx) 1 7 + 8 + 8 * (1201 - (a + 1)) ≤ 1000001000 - (gg_ : Int) := by
  obtain ⟨e1, e2, e3, e4, e5, e6, e7, e8, e9, e10, e11, e12, e13, e14, e15⟩ := h
  refine ⟨⟨gd_c (nX_ne (by decide)) (gd_n e1 h12 hk.1 hk.2), by rw [nX_3, e2], by rw [nx_12, e3], by rw [nX_1 (by decide)]; exact e4, by rw [nx_6 (by decide)]; exact e5, e6, by rw [nX_1 (by decide)]; exact e7, by rw [nx_6 (by decide)]; exact e8, e9, fun hb => by rw [nx_6 (by decide)]; exact e10 hb, ?_, by rw [nX_1 (by decide)]; exact e12, by rw [nX_1 (by decide)]; (clear h12 hk e1 e4 e5 e6 e7 e8 e9 e10 e11 e12 e14 e15; lia), by rw [nX_ne (by decide)]; exact e14, by rw [nX_ne (by decide)]; (clear h12 hk e1 e4 e5 e6 e7 e8 e9 e10 e11 e12 e13 e14; lia)⟩, by rw [nX_ne (by decide)]; (clear h12 hk e1 e4 e5 e6 e7 e8 e9 e10 e11 e12 e13 e14; lia), by rw [nX_1 (by decide)]; (clear h12 hk e1 e4 e5 e6 e7 e8 e9 e10 e11 e12 e14 e15; lia)⟩
  unfold NR
  rw [nX_1 (by decide), nX_1 (by decide), nX_1 (by decide), nx_6 (by decide), nx_6 (by decide), nx_6 (by decide)]
  exact e11
theorem ER_pX [Inhabited gh_] {v : Int} (h : ER b F Mx Mq a o) (hs : Mx 5 3 + 1 ≤ 9 * a + 1000) : ER b F (pX_ Mx v) Mq a o := by
  obtain ⟨e1, e2, e3, e4, e5, e6, e7, e8, e9, e10, e11, e12, e13, e14, e15⟩ := h
  have h5 : pX_ Mx v 5 3 = Mx 5 3 ∨ pX_ Mx v 5 3 = Mx 5 3 + 1 := by
    unfold pX_; split
    · exact .inl rfl
    · exact .inr (by rw [up_at])
  refine ⟨gd_c (pX_r (by decide) (by decide)) e1, by rw [pX_1]; exact e2, e3, by rw [pX_1]; exact e4, e5, e6, by rw [pX_1]; exact e7, e8, e9, e10, ?_, by rw [pX_1]; exact e12, by rw [pX_1]; exact e13, by rcases h5 with h | h <;> omega, by rcases h5 with h | h <;> (clear e1 e4 e5 e6 e7 e8 e9 e10 e11 e12 e13 e14 e15; lia)⟩
  unfold NR; rw [pX_1]; exact e11
theorem ER_nt [Inhabited gh_] {k t p : Int} (h : ER b F Mx Mq a o) (hb1 : b = 1) (hk : 1 ≤ k ∧ k ≤ 7) (hp : Mx 71 t = p) (hp0 : 0 ≤ p ∧ p ≤ 5000) (hf : Mx 1 7 + 1 + 8 * (1201 - a) ≤ 1000001000 - (gg_ : Int)) : ER b F (nt1_ Mx k t) (nt_ Mq k p) a o ∧ kk_ (nt_ Mq k p 6 13) (nt_ Mq k p 6 14) ≤ 8 * p + k := by
  obtain ⟨e1, e2, e3, e4, e5, e6, e7, e8, e9, e10, e11, e12, e13, e14, e15⟩ := h
  obtain ⟨n1, n2, n3, n4⟩ := e11
  have k1 := kk_nt1 (M := Mx) (k := k) (t := t) n1 hk.1 hk.2 (by rw [hp]; exact hp0.1) (by rw [hp]; exact hp0.2)
  have hfq : fqq_ (nt_ Mq k p) = np_ 1 (fqq_ Mq) k p := by rw [nt_fq, e8, hb1]
  have k2 := kk_np (q := fqq_ Mq) (k := k) (p := p) n2 hk.1 hk.2 hp0.1 hp0.2
  have f13 : nt_ Mq k p 6 13 = (np_ 1 (fqq_ Mq) k p).1 := congrArg Prod.fst hfq
  have f14 : nt_ Mq k p 6 14 = (np_ 1 (fqq_ Mq) k p).2 := congrArg Prod.snd hfq
  have hkq : kk_ (fqq_ Mq).1 (fqq_ Mq).2 = kk_ (Mq 6 13) (Mq 6 14) := rfl
  refine ⟨⟨gd_c (nt1_r (by decide)) e1, by rw [nt1_1 (by decide) (by decide) (by decide)]; exact e2, by rw [nt_6 (by decide) (by decide)]; exact e3, by rw [nt1_1 (by decide) (by decide) (by decide)]; exact e4, by rw [nt_6 (by decide) (by decide)]; exact e5, e6, by rw [nt1_1 (by decide) (by decide) (by decide)]; exact e7, by rw [nt_6 (by decide) (by decide)]; exact e8, e9, fun hb => absurd (hb.symm.trans hb1) (by decide), ⟨k1.2, by rw [f13, f14]; exact k2.2, ?_, n4.1, by
    rw [nt_6 (by decide) (by decide), f13, f14, nt1_1 (by decide) (by decide) (by decide)]
    exact n4.2.imp id fun z => Int.le_trans (np_le (q := fqq_ Mq) n2 hk.1 hk.2 hp0.1 hp0.2).1 z⟩, by rw [nt1_7]; omega, by rw [nt1_7]; omega, by rw [nt1_r (by decide)]; exact e14, by rw [nt1_r (by decide)]; exact e15⟩, ?_⟩
  · rw [k1.1, f13, f14, k2.1, n3, hkq, hp]; (clear hk hp0 hf e1 e2 e3 e4 e5 e6 e7 e9 e10 e12 e13 e14 e15 n1 n2 k1 hfq k2 f13 f14; lia)
  · rw [f13, f14, k2.1]; (clear hb1 hk hp hp0 hf e1 e2 e3 e4 e5 e6 e7 e8 e9 e10 e12 e13 e14 e15 n1 n2 n3 n4 k1 hfq k2 f13 f14; omega)
theorem ER_o [Inhabited gh_] (h : ER b F Mx Mq a o) {o' : Int} (h0 : 0 ≤ o' ∧ o' ≤ 12) : ER b F (up_ Mx 1 6 o') (up_ Mq 6 15 o') a o' := by
  obtain ⟨e1, e2, e3, e4, e5, e6, e7, e8, e9, e10, e11, e12, e13, e14, e15⟩ := h
  refine ⟨gd_c (up_ne (by decide)) e1, by rw [up_off (by decide)]; exact e2, by rw [up_off (by decide)]; exact e3, up_at, up_at, h0, by rw [up_off (by decide)]; exact e7, by rw [up_off (by decide)]; exact e8, e9, fun hb => by rw [up_off (by decide)]; exact e10 hb, ?_, by rw [up_off (by decide)]; exact e12, by rw [up_off (by decide)]; exact e13, by rw [up_ne (by decide)]; exact e14, by rw [up_ne (by decide)]; exact e15⟩
  unfold NR
  rw [up_off (by decide), up_off (by decide), up_off (by decide), up_off (by decide), up_off (by decide), up_off (by decide)]
  exact e11
theorem oX_XF [Inhabited gh_] {v : Int} : XF M (up_ M 1 6 v) := ⟨Fr_up Fr_rf (by decide), fun i _ _ _ h _ => by rw [up_off h], fun i _ => by rw [up_ne (by decide)]⟩
theorem oq_QF [Inhabited gh_] {v : Int} : QF M (up_ M 6 15 v) := ⟨Fr_up Fr_rf (by decide), fun i _ _ _ h _ _ _ _ => by rw [up_off h]⟩
theorem nX_E [Inhabited gh_] (h : XE M cc cd) : XE (nX_ M) cc cd := XE_c (by rw [nX_ne (by decide)]) (nX_ne (by decide)) h
/-- X's two words -/
theorem pX_2 [Inhabited gh_] (h8 : M 1 8 = b) (h01 : b = 0 ∨ b = 1) (v w : Int) (hE : XE M cc cd) : XE (pX_ (pX_ M v) w) cc ((if b = 0 then [] else [w, v]) ++ cd) := by
  rcases h01 with h | h
  · rw [if_pos h, pX_0 (by rw [pX_1, h8]; exact h), pX_0 (by rw [h8]; exact h)]; exact hE
  · rw [if_neg (by rw [h]; decide)]
    exact pX_E (by rw [pX_1, h8, h]; decide) (pX_E (by rw [h8, h]; decide) hE)
theorem pX_1w [Inhabited gh_] (h8 : M 1 8 = b) (h01 : b = 0 ∨ b = 1) (v : Int) (hE : XE M cc cd) : XE (pX_ M v) cc ((if b = 0 then [] else [v]) ++ cd) := by
  rcases h01 with h | h
  · rw [if_pos h, pX_0 (by rw [h8]; exact h)]; exact hE
  · rw [if_neg (by rw [h]; decide)]
    exact pX_E (by rw [h8, h]; decide) hE
theorem ad_6 [Inhabited gh_] {s p bb i : Int} (h : i ≠ 116) : ad_ M s p bb 6 i = M 6 i := by unfold ad_ w3_; rw [up_off h, up_ne (by decide), up_ne (by decide), up_ne (by decide)]
theorem ad_QF [Inhabited gh_] {s p bb : Int} : QF M (ad_ M s p bb) := by
  unfold ad_ w3_
  exact ⟨Fr_up (Fr_up (Fr_up (Fr_up Fr_rf (by decide)) (by decide)) (by decide)) (by decide), fun i _ _ _ _ _ _ h _ => by rw [up_off h, up_ne (by decide), up_ne (by decide), up_ne (by decide)]⟩
/-- Q: an operand, with what then comes -/
theorem q_278 [Inhabited gh_] {s p bb : Int} (h0 : 0 ≤ M 6 116) (h1 : M 6 116 < 1202) (hb : bb = 0 ∨ bb = 1) (h : Tr_ wd0 pg0 d 279 [.inr (.inr 6)] (ad_ M s p bb) (rv_ Kv) Qt) : Tr_ wd0 pg0 (d + 1) 278 [.inr (.inr 6), .inl s, .inl p, .inl bb] M (rv_ Kv) Qt := t_278 fun V hV hW => b_278_0 (Tr_mono _) hV hW s p bb M ⟨⟨h0, h1⟩, ⟨h0, h1⟩, ⟨⟨h0, h1⟩, hb⟩, by
  rw [w32_id (by omega) (by omega)]
  exact Tr_m h (fun vs N hq => by obtain ⟨hv, hk⟩ := hq; exact ⟨hv, rfl, hk⟩) (fun _ _ q => q)⟩
/-- what a part of one token, or of two, leaves -/
theorem EP_atom [Inhabited gh_] {need a' t bd s : Int} {x : Int × Int} {y : List Int} (hT : Tks Mx Mq) (haa : a < a') (hX : XF Mx Mx') (hQ : QF Mq Mq') (hER : ER b F Mx' Mq' a' o) (hQE : QE Mq' sg ((t, Mx 71 a, bd) :: ws) (c :: cm) f (x :: fm)) (hbd : bd = 0 ∨ bd = 1) (hXE : XE Mx' cc (y ++ cd)) (hy0 : b = 0 → y = []) (hy1 : b = 1 → bd = 0 → y = en_1 Mq x) (hyl : (y.length : Int) ≤ 3)
    (hfl : Mx' 1 7 ≤ Mx 1 7 + 4) (hfl2 : Mx 1 7 ≤ Mx' 1 7) (h0 : b = 1 → bd = 0 → s = t - 1 ∧ 1 ≤ t ∧ t ≤ 3 ∧ Mx' 1 7 = Mx 1 7 ∧ fqq_ Mq' = fqq_ Mq ∧ ∀ st, ts_ Mq x st (t :: st)) (h1 : b = 1 → bd = 1 → s = -1 ∧ Mx 1 7 < Mx' 1 7 ∧ kk_ (Mq' 6 13) (Mq' 6 14) < 8 * Mx 71 a') (hneed : 1 ≤ need) :
    EP need b F Mx Mq Mx' Mq' a a' o sg ws c cm f fm cc cd y s t bd [x] ∧ (b = 1 → bd = 1 → s = -1) := by
  refine ⟨⟨haa, hX, hQ, hER, hQE, hbd, ?_, ⟨hXE, hy0, fun hb h => ?_, ?_⟩, ⟨?_, hfl2⟩, fun hb => ⟨fun h => ?_, fun h => ?_⟩, fun hb h st Dd hD => ?_⟩, fun hb h => (h1 hb h).1⟩
  · simp only [List.length_cons, List.length_nil]; push_cast; omega
  · show y = en_1 Mq x ++ []
    rw [List.append_nil]; exact hy1 hb h
  · (clear hT hX hQ hER hQE hbd hXE hy0 hy1 hfl hfl2 h0 h1 hneed; lia)
  · omega
  · have := h0 hb h; exact ⟨this.1, this.2.1, this.2.2.1, this.2.2.2.1, this.2.2.2.2.1⟩
  · have := h1 hb h; exact ⟨.inl this.1, this.2⟩
  · exact ⟨st, rfl, (h0 hb h).2.2.2.2.2 st, by simp only [List.length_cons]; push_cast; (clear hT haa hX hQ hER hQE hbd hXE hy0 hy1 hyl hfl hfl2 h0 h1 hb h; lia)⟩
end SP
end T79_er
section T80_er
/-! Q's first parts -/
section QP
variable {dq d : Nat} {M M' : mm_} {a k p : Int} {sg : List (Int × Int)} {ws : List (Int × Int × Int)} {cm : List Int} {f : Int} {fm : List (Int × Int)} {K : Int → mm_ → Prop} {Kv : mm_ → Prop} {Qr : qr_} {Qt : qt_} {V : vv_}
theorem Rq_272 [Inhabited gh_] {v : Int} (hg : go_ M) (h : ∀ (K : Int → mm_ → Prop) (Qt : qt_), K v M' → Tr_ wd0 pg0 (dq + 10) 272 [.inr (.inr 6)] M (ri_ K) Qt) : Rq dq 0 M v M' := fun V Qr Qt hV hW q => by
  refine b_271_26 (Tr_mono _) hV hW 0 1 M ?_
  rw [if_neg (by decide)]
  refine q_227g hg ?_
  rw [if_pos rfl, if_pos rfl]
  exact h (fun v5 M7 => V 26 [rr 6, ii v5, ii 1, none] [] M7) Qt q
/-- kinds that begin an operand otherwise -/
def kf_ (k : Int) : Prop := k ≠ 245 ∧ k ≠ 41 ∧ k ≠ 240
theorem q_272o [Inhabited gh_] (hi : in9_ M) (ha : M 6 12 = a) (hk : KQ k (M 149 a) (M 151 a)) (hf : kf_ k) (h : (if M 149 a = 1 then Tr_ wd0 pg0 (d + 1) 275 [.inr (.inr 6), .inl (M 150 a)] M (ri_ fun v6 M9 => bl_ v6 ∧ ri_ K [.inl v6] M9) Qt else (if M 149 a = 2 then Tr_ wd0 pg0 (d + 1) 277 [.inr (.inr 6), .inl 1, .inl (w32 (M 151 a))] M (rv_ fun M5 => Tr_ wd0 pg0 (d + 1) 230 [.inr (.inr 6)] M5 (rv_ fun M6 => Tr_ wd0 pg0 (d + 1) 227 [.inr (.inr 6)] M6 (ri_ fun v5 M7 => (if v5 = 0 then Tr_ wd0 pg0 (d + 1) 278 [.inr (.inr 6), .inl 1, .inl (M 150 a), .inl 0] M7 (rv_ fun M8 => bl_ 1 ∧ ri_ K [.inl 1] M8) Qt else bl_ 1 ∧ ri_ K [.inl 1] M7)) Qt) Qt) Qt else Tr_ wd0 pg0 (d + 1) 281 [.inr (.inr 6), .inl (M 150 a)] M (ri_ fun v4 M4 => bl_ v4 ∧ ri_ K [.inl v4] M4) Qt))) : Tr_ wd0 pg0 (d + 2) 272 [.inr (.inr 6)] M (ri_ K) Qt := t_272 fun V hV hW => b_272_0 (Tr_mono _) hV hW M (by
  subst ha
  unfold KQ at hk
  obtain ⟨f1, f2, f3⟩ := hf
  refine ⟨hi, q_237f hi (by (clear hi hV hW h; lia)) ?_⟩
  rw [if_pos rfl]
  refine q_229f hi (by omega) ?_
  rw [if_pos rfl]
  refine q_237f hi (by omega) ?_
  rw [if_pos rfl]
  refine ⟨hi, ?_⟩
  by_cases c1 : M 149 (M 6 12) = 1
  · rw [if_pos c1] at h ⊢; exact h
  · rw [if_neg c1] at h ⊢
    refine ⟨hi, ?_⟩
    by_cases c2 : M 149 (M 6 12) = 2
    · rw [if_pos c2] at h ⊢; exact ⟨hi, h⟩
    · rw [if_neg c2] at h ⊢; exact h)
/-- a number -/
theorem q_272n [Inhabited gh_] (ha : M 6 12 = a) (h0 : 0 ≤ a) (h12 : a < 1200) (hg : go_ M) (hk : KQ 101 (M 149 a) (M 151 a)) (hv0 : 0 ≤ M 151 a) (hv : M 151 a < 1000000000) (hE : QE M sg ws cm f fm) (hw : (ws.length : Int) < 1202) (hf0 : 0 ≤ f) (hf : f + fm.length < 3000)
    (h : Tr_ wd0 pg0 (d + 1) 279 [.inr (.inr 6)] (ad_ (nx_ (pu_ M 1 (M 151 a))) 1 (M 150 a) 0) (rv_ fun M8 => K 1 M8) Qt) : Tr_ wd0 pg0 (d + 3) 272 [.inr (.inr 6)] M (ri_ K) Qt := by
  refine q_272o (k := 101) ⟨by (clear hg hk hv0 hv hE hw hf0 hf h; omega), by omega⟩ ha hk ⟨by decide, by decide, by decide⟩ ?_
  have h2 : M 149 a = 2 := by unfold KQ at hk; (clear ha h0 h12 hg hv0 hv hE hw hf0 hf h; lia)
  rw [if_neg (by (clear ha h0 h12 hg hk hv0 hv hE hw hf0 hf h; lia)), if_pos h2, w32_id (by omega) (by omega)]
  refine q_277 (by rw [hE.2.2.2.2.2.2.1]; (clear ha h0 h12 hg hk hv0 hv hE hw hf h h2; lia)) (by rw [hE.2.2.2.2.2.2.1]; omega) ?_
  have hg1 : go_ (pu_ M 1 (M 151 a)) := by unfold go_; rw [pu_6 (by decide), pu_6 (by decide)]; exact hg
  refine q_230g hg1 (by rw [pu_6 (by decide)]; omega) (by rw [pu_6 (by decide)]; omega) ?_
  refine q_227g (nx_go hg1) ?_
  rw [if_pos rfl]
  have e116 : nx_ (pu_ M 1 (M 151 a)) 6 116 = ws.length := by rw [nx_6 (by decide), pu_6 (by decide)]; exact hE.2.2.1
  refine q_278 (by (clear ha h0 h12 hg hk hv0 hv hE hf0 hf h h2 hg1; omega)) (by (clear ha h0 h12 hg hk hv0 hv hE hf0 hf h h2 hg1; omega)) (.inl rfl) ?_
  exact Tr_m h (fun vs N hq => ⟨hq.1, .inr rfl, ri_i hq.2⟩) (fun _ _ q => q)
/-- the form of a word, and its sort -/
def wf_ (k : Int) : Int × Int := if k = 31 then (1, 1) else if k = 32 then (1, 0) else if k = 33 then (1, 0) else if k ≤ 37 then (5, k - 34) else if k = 38 then (8, 0) else (9, 0)
def wt_ (k : Int) : Int := if k = 31 ∨ k = 32 then 2 else if k ≤ 37 then 3 else 1
theorem q_272w [Inhabited gh_] (ha : M 6 12 = a) (h0 : 0 ≤ a) (h12 : a < 1200) (hg : go_ M) (hk : KQ k (M 149 a) (M 151 a)) (hk1 : 31 ≤ k) (hk2 : k ≤ 40) (hk3 : k ≠ 39) (hE : QE M sg ws cm f fm) (hw : (ws.length : Int) < 1202) (hf0 : 0 ≤ f) (hf : f + fm.length < 3000)
    (h : Tr_ wd0 pg0 (d + 1) 279 [.inr (.inr 6)] (ad_ (pu_ (nx_ M) (wf_ k).1 (wf_ k).2) (wt_ k) (M 150 a) 0) (rv_ fun M8 => K 1 M8) Qt) : Tr_ wd0 pg0 (d + 4) 272 [.inr (.inr 6)] M (ri_ K) Qt := by
  refine q_272o (k := k) ⟨by (clear hg hk hk1 hk2 hk3 hE hw hf0 hf h; lia), by omega⟩ ha hk ⟨by (clear ha h0 h12 hg hk hk3 hE hw hf0 hf h; omega), by omega, by omega⟩ ?_
  have h4 : M 149 a = 4 ∧ M 151 a = k := by unfold KQ at hk; (clear ha h0 h12 hg hE hw hf0 hf h; lia)
  rw [if_neg (by omega), if_neg (by omega)]
  refine t_281 fun V hV hW => b_281_0 (Tr_mono _) hV hW _ M ?_
  rw [ha, if_pos h4.1, h4.2, w32_id (by omega) (by (clear ha h0 h12 hg hk hk3 hE hw hf0 hf h hV hW; lia))]
  refine ⟨by omega, by omega, b_281_28 (Tr_mono _) hV hW _ _ M ?_⟩
  rw [if_neg hk3, if_neg (by omega), if_pos hk2]
  refine q_230g hg (by omega) (by omega) ?_
  refine q_227g (nx_go hg) ?_
  rw [if_pos rfl]
  have e104 : nx_ M 6 104 = f + fm.length := by rw [nx_6 (by decide)]; exact hE.2.2.2.2.2.2.1
  have last : V 200 [rr 6, ii (M 150 a), ii k, none] [] (pu_ (nx_ M) (wf_ k).1 (wf_ k).2) := by
    refine b_281_200 (Tr_mono _) hV hW _ _ _ ?_
    have e116 : pu_ (nx_ M) (wf_ k).1 (wf_ k).2 6 116 = ws.length := by rw [pu_6 (by decide), nx_6 (by decide)]; exact hE.2.2.1
    have fin : ∀ t : Int, t = wt_ k → Tr_ wd0 pg0 (d + 2) 278 [.inr (.inr 6), .inl t, .inl (M 150 a), .inl 0] (pu_ (nx_ M) (wf_ k).1 (wf_ k).2) (rv_ fun M1 => bl_ 1 ∧ ri_ (fun v4 M4 => bl_ v4 ∧ ri_ K [.inl v4] M4) [.inl 1] M1) Qt := by
      intro t ht
      rw [ht]
      refine q_278 (by omega) (by omega) (.inl rfl) ?_
      exact Tr_m h (fun vs N hq => ⟨hq.1, .inr rfl, ri_i ⟨.inr rfl, ri_i hq.2⟩⟩) (fun _ _ q => q)
    unfold wt_ at fin
    by_cases c1 : k = 31
    · rw [if_pos c1]; exact fin 2 (by rw [if_pos (.inl c1)])
    · rw [if_neg c1]
      by_cases c2 : k = 32
      · rw [if_pos c2]; exact fin 2 (by rw [if_pos (.inr c2)])
      · rw [if_neg c2]
        by_cases c3 : k ≤ 37
        · rw [if_pos c3]; exact fin 3 (by rw [if_neg (by (clear ha h0 h12 hg hk hk1 hk2 hk3 hE hw hf0 hf h hV hW e104 e116 fin c3; lia)), if_pos c3])
        · rw [if_neg c3]; exact fin 1 (by rw [if_neg (by (clear ha h0 h12 hg hk hk3 hE hw hf0 hf h hV hW e104 e116 fin c1 c2; lia)), if_neg c3])
  have pu : ∀ x y : Int, wf_ k = (x, y) → Tr_ wd0 pg0 (d + 2) 277 [.inr (.inr 6), .inl x, .inl y] (nx_ M) (rv_ fun M5 => V 200 [rr 6, ii (M 150 a), ii k, none] [] M5) Qt := by
    intro x y e
    rw [e] at last
    exact q_277 (by (clear ha h0 h12 hg hk hk1 hk2 hk3 hE hw hf h h4 hV hW last e; lia)) (by omega) last
  unfold wf_ at pu
  by_cases c1 : k = 31
  · rw [if_pos c1, if_pos c1]; exact pu 1 1 (by rw [if_pos c1])
  · rw [if_neg c1]
    by_cases c2 : k = 32
    · rw [if_pos c2, if_neg c1]; exact pu 1 0 (by rw [if_neg c1, if_pos c2])
    · rw [if_neg c2]
      by_cases c3 : k = 33
      · rw [if_pos c3]; exact pu 1 0 (by rw [if_neg c1, if_neg c2, if_pos c3])
      · rw [if_neg c3, if_neg (by (clear ha h0 h12 hg hk hk3 hE hw hf0 hf h hV hW e104 last pu; omega))]
        by_cases c4 : k ≤ 37
        · rw [if_pos c4, w32_id (by (clear ha h0 h12 hg hk hk3 hE hw hf0 hf h hV hW e104 last pu c1 c2 c3; lia)) (by omega)]; exact pu 5 (k - 34) (by rw [if_neg c1, if_neg c2, if_neg c3, if_pos c4])
        · rw [if_neg c4]
          by_cases c5 : k = 38
          · rw [if_pos c5]; exact pu 8 0 (by rw [if_neg c1, if_neg c2, if_neg c3, if_neg c4, if_pos c5])
          · rw [if_neg c5]; exact pu 9 0 (by rw [if_neg c1, if_neg c2, if_neg c3, if_neg c4, if_neg c5])
/-- no operand: wrong -/
theorem q_272b [Inhabited gh_] (hi : in9_ M) (ha : M 6 12 = a) (hs : ok_ M) (hk : KQ k (M 149 a) (M 151 a)) (hf : kf_ k) (h1 : k ≠ 100) (h2 : k ≠ 101) (h3 : ¬ (31 ≤ k ∧ k ≤ 40)) (h : K 1 (bf_ M 1 (M 150 a))) : Tr_ wd0 pg0 (d + 4) 272 [.inr (.inr 6)] M (ri_ K) Qt := by
  refine q_272o (k := k) hi ha hk hf ?_
  unfold in9_ at hi
  rw [ha] at hi
  have hh : M 149 a ≠ 1 ∧ M 149 a ≠ 2 ∧ (M 149 a = 4 → M 151 a = k ∧ 0 ≤ k ∧ k < 48) := by unfold KQ at hk; (clear hi ha hs hf h; lia)
  rw [if_neg hh.1, if_neg hh.2.1]
  refine t_281 fun V hV hW => b_281_0 (Tr_mono _) hV hW _ M ?_
  rw [ha]
  have hw : ∀ w : Int, (w < 31 ∨ 40 < w) → V 28 [rr 6, ii (M 150 a), ii w, none] [] M := by
    intro w hw
    refine b_281_28 (Tr_mono _) hV hW _ _ M ?_
    rw [if_neg (by omega)]
    have e : Tr_ wd0 pg0 (d + 2) 234 [.inr (.inr 6)] M (rv_ fun M1 => bl_ 1 ∧ ri_ (fun v4 M4 => bl_ v4 ∧ ri_ K [.inl v4] M4) [.inl 1] M1) Qt := q_234o (by unfold in9_; rw [ha]; exact hi) hs.1 ⟨.inr rfl, ri_i ⟨.inr rfl, ri_i (by rw [ha]; exact h)⟩⟩
    by_cases c : w < 31
    · rw [if_pos c]; exact e
    · rw [if_neg c, if_neg (by (clear hi ha hs hk hf h1 h2 h3 h hh hV hW e; omega))]; exact e
  refine ⟨hi, ?_⟩
  by_cases c : M 149 a = 4
  · rw [if_pos c]
    have := hh.2.2 c
    rw [this.1, w32_id (by omega) (by omega)]
    exact ⟨hi, hw k (by omega)⟩
  · rw [if_neg c]; exact hw (-1) (by omega)
end QP
end T80_er
section T81_er
/-! Q's first parts: no room; prefixes; brackets; a timer -/
section QP
variable {dq d : Nat} {M M' : mm_} {a k p o : Int} {sg : List (Int × Int)} {ws : List (Int × Int × Int)} {cm : List Int} {f : Int} {fm : List (Int × Int)} {K : Int → mm_ → Prop} {Kv : mm_ → Prop} {Qr : qr_} {Qt : qt_} {V : vv_}
theorem q_272nr [Inhabited gh_] (ha : M 6 12 = 1200) (hg : ok_ M) (hk : KQ 101 (M 149 1200) (M 151 1200)) (hv0 : 0 ≤ M 151 1200) (hv : M 151 1200 < 1000000000) (hE : QE M sg ws cm f fm) (hf0 : 0 ≤ f) (hf : f + fm.length < 3000)
    (h : K 1 (bf_ (pu_ M 1 (M 151 1200)) 2 (M 150 1200))) : Tr_ wd0 pg0 (d + 3) 272 [.inr (.inr 6)] M (ri_ K) Qt := by
  refine q_272o (k := 101) (a := 1200) ⟨by (clear hg hk hv0 hv hE hf0 hf h; lia), by omega⟩ ha hk ⟨by decide, by decide, by decide⟩ ?_
  have h2 : M 149 1200 = 2 := by unfold KQ at hk; omega
  rw [if_neg (by omega), if_pos h2, w32_id (by omega) (by omega)]
  refine q_277 (by rw [hE.2.2.2.2.2.2.1]; omega) (by rw [hE.2.2.2.2.2.2.1]; omega) ?_
  have hg1 : ok_ (pu_ M 1 (M 151 1200)) := by unfold ok_; rw [pu_6 (by decide), pu_6 (by decide)]; exact hg
  refine q_230r hg1 (by rw [pu_6 (by decide)]; omega) ?_
  refine q_227s (bf_sp hg1.2 (by decide)) ?_
  rw [if_neg (by decide), pu_6 (by decide), ha, pu_r (by decide) (by decide) (by decide)]
  exact ⟨.inr rfl, ri_i h⟩
theorem q_272wr [Inhabited gh_] (ha : M 6 12 = 1200) (hg : ok_ M) (hk : KQ k (M 149 1200) (M 151 1200)) (hk1 : 31 ≤ k) (hk2 : k ≤ 40) (hk3 : k ≠ 39) (h : K 1 (bf_ M 2 (M 150 1200))) : Tr_ wd0 pg0 (d + 4) 272 [.inr (.inr 6)] M (ri_ K) Qt := by
  refine q_272o (k := k) (a := 1200) ⟨by omega, by omega⟩ ha hk ⟨by omega, by omega, by (clear ha hg hk hk3 h; omega)⟩ ?_
  have h4 : M 149 1200 = 4 ∧ M 151 1200 = k := by unfold KQ at hk; (clear ha hg h; lia)
  rw [if_neg (by omega), if_neg (by omega)]
  refine t_281 fun V hV hW => b_281_0 (Tr_mono _) hV hW _ M ?_
  rw [ha, if_pos h4.1, h4.2, w32_id (by omega) (by omega)]
  refine ⟨by omega, by omega, b_281_28 (Tr_mono _) hV hW _ _ M ?_⟩
  rw [if_neg hk3, if_neg (by omega), if_pos hk2]
  refine q_230r hg ha ?_
  refine q_227s (bf_sp hg.2 (by decide)) ?_
  rw [if_neg (by decide), ha]
  exact ⟨.inr rfl, ri_i ⟨.inr rfl, ri_i h⟩⟩
/-- the code of a prefix -/
def pc_ (k : Int) : Int := if k = 245 then 13 else 14
theorem q_272p [Inhabited gh_] (ha : M 6 12 = a) (h0 : 0 ≤ a) (h12 : a < 1200) (hg : go_ M) (hk : KQ k (M 149 a) (M 151 a)) (hk1 : k = 245 ∨ k = 41) (ho : M 6 15 = o) (ho0 : 0 ≤ o) (ho1 : o < 12) (hs0 : 0 ≤ M 6 112) (hs : M 6 112 < 1240)
    (h : K 0 (nx_ (ho_ (up_ M 6 15 (o + 1)) (pc_ k) a))) : Tr_ wd0 pg0 (d + 3) 272 [.inr (.inr 6)] M (ri_ K) Qt := t_272 fun V hV hW => b_272_0 (Tr_mono _) hV hW M (by
  subst ha
  subst ho
  have hi : in9_ M := ⟨by omega, by omega⟩
  have at28 : V 28 [rr 6, ii (M 150 (M 6 12)), none] [] M := by
    refine b_272_28 (Tr_mono _) hV hW _ M ?_
    refine q_240g ho0 ho1 ?_
    have e12 : up_ M 6 15 (M 6 15 + 1) 6 12 = M 6 12 := up_off (by decide)
    have e149 : up_ M 6 15 (M 6 15 + 1) 149 = M 149 := up_ne (by decide)
    have e151 : up_ M 6 15 (M 6 15 + 1) 151 = M 151 := up_ne (by decide)
    have e112 : up_ M 6 15 (M 6 15 + 1) 6 112 = M 6 112 := up_off (by decide)
    have hi1 : in9_ (up_ M 6 15 (M 6 15 + 1)) := by unfold in9_; rw [e12]; exact hi
    have fin : ∀ s : Int, s = pc_ k → Tr_ wd0 pg0 (d + 2) 273 [.inr (.inr 6), .inl s, .inl (up_ M 6 15 (M 6 15 + 1) 6 12)] (up_ M 6 15 (M 6 15 + 1)) (rv_ fun M3 => Tr_ wd0 pg0 (d + 2) 230 [.inr (.inr 6)] M3 (rv_ fun M4 => bl_ 0 ∧ ri_ K [.inl 0] M4) Qt) Qt := by
      intro s hs9
      rw [hs9, e12]
      refine q_273 (by rw [e112]; exact hs0) (by rw [e112]; exact hs) ?_
      refine q_230g ?_ ?_ ?_ ⟨.inl rfl, ri_i h⟩
      · unfold go_; rw [ho_6 (by decide), ho_6 (by decide), up_off (by decide), up_off (by decide)]; exact hg
      · rw [ho_6 (by decide), e12]; exact h0
      · rw [ho_6 (by decide), e12]; exact h12
    unfold KQ at hk
    by_cases c : k = 245
    · refine q_237t hi1 (by rw [e149, e12]; omega) (by rw [e151, e12]; omega) ?_
      rw [if_neg (by decide)]; exact fin 13 (by unfold pc_; rw [if_pos c])
    · refine q_237f hi1 (by rw [e149, e151, e12]; omega) ?_
      rw [if_pos rfl]; exact fin 14 (by unfold pc_; rw [if_neg c])
  unfold KQ at hk
  refine ⟨hi, ?_⟩
  by_cases c : k = 245
  · refine q_237t hi (by omega) (by omega) ?_
    rw [if_neg (by decide)]; exact at28
  · refine q_237f hi (by omega) ?_
    rw [if_pos rfl]
    refine q_229t hi (by (clear hg hs0 hs hV hW h0 h12 ho0 ho1 h hi at28; lia)) (by (clear hg hs0 hs hV hW h0 h12 ho0 ho1 h hi at28; lia)) ?_
    rw [if_neg (by decide)]; exact at28)
/-- a prefix, where there is no room -/
theorem q_272pr [Inhabited gh_] (ha : M 6 12 = a) (h0 : 0 ≤ a) (h12 : a ≤ 1200) (hg : ok_ M) (hk : KQ k (M 149 a) (M 151 a)) (hk1 : k = 245 ∨ k = 41) (ho : M 6 15 = o) (ho0 : 0 ≤ o) (ho1 : o ≤ 12) (hor : o = 12 ∨ a = 1200) (hs0 : 0 ≤ M 6 112) (hs : M 6 112 < 1240)
    (h : ∀ M', sp_ M' → in9_ M' → M' 6 13 = 2 → M' 6 14 = M 150 a → QF M M' → K 0 M') : Tr_ wd0 pg0 (d + 3) 272 [.inr (.inr 6)] M (ri_ K) Qt := t_272 fun V hV hW => b_272_0 (Tr_mono _) hV hW M (by
  subst ha
  subst ho
  have hi : in9_ M := ⟨by omega, by omega⟩
  have at28 : V 28 [rr 6, ii (M 150 (M 6 12)), none] [] M := by
    refine b_272_28 (Tr_mono _) hV hW _ M ?_
    by_cases c12 : M 6 15 = 12
    · refine q_240r hg hi c12 ?_
      generalize hM1 : bf_ (up_ M 6 15 13) 2 (M 150 (M 6 12)) = M1
      have q1 : QF M M1 := by rw [← hM1]; exact QF_tr oq_QF bf_QF
      have e12 : M1 6 12 = M 6 12 := by rw [← hM1, bf_6 (by decide) (by decide), up_off (by decide)]
      have e112 : M1 6 112 = M 6 112 := by rw [← hM1, bf_6 (by decide) (by decide), up_off (by decide)]
      have e149 : M1 149 = M 149 := QF_r q1 (by decide) (by decide)
      have e151 : M1 151 = M 151 := QF_r q1 (by decide) (by decide)
      have e13 : M1 6 13 = 2 := by rw [← hM1, bf_13]
      have e14 : M1 6 14 = M 150 (M 6 12) := by rw [← hM1, bf_14]
      have hsp : sp_ M1 := ⟨by rw [e13]; decide, by rw [← hM1, bf_6 (by decide) (by decide), up_off (by decide)]; exact hg.2⟩
      have hi1 : in9_ M1 := by unfold in9_; rw [e12]; exact hi
      have fin : ∀ s : Int, Tr_ wd0 pg0 (d + 2) 273 [.inr (.inr 6), .inl s, .inl (M1 6 12)] M1 (rv_ fun M3 => Tr_ wd0 pg0 (d + 2) 230 [.inr (.inr 6)] M3 (rv_ fun M4 => bl_ 0 ∧ ri_ K [.inl 0] M4) Qt) Qt := by
        intro s
        refine q_273 (by rw [e112]; exact hs0) (by rw [e112]; exact hs) ?_
        have hsp2 : sp_ (ho_ M1 s (M1 6 12)) := by unfold sp_; rw [ho_6 (by decide), ho_6 (by decide)]; exact hsp
        have hi2 : in9_ (ho_ M1 s (M1 6 12)) := by unfold in9_; rw [ho_6 (by decide)]; exact hi1
        exact q_230s hsp2 hi2 ⟨.inl rfl, ri_i (h _ hsp2 hi2 (by rw [ho_6 (by decide)]; exact e13) (by rw [ho_6 (by decide)]; exact e14) (QF_tr q1 ho_QF))⟩
      unfold KQ at hk
      by_cases c : k = 245
      · refine q_237t hi1 (by rw [e149, e12]; (clear hg hk1 hs0 hs hV hW h0 h12 h ho0 ho1 hi c12 hM1 q1 e12 e112 e149 e151 e13 e14 hsp hi1 fin; lia)) (by rw [e151, e12]; omega) ?_
        rw [if_neg (by decide)]; exact fin 13
      · refine q_237f hi1 (by rw [e149, e151, e12]; (clear hg hk1 hs0 hs hV hW h0 h12 h ho0 ho1 hi c12 hM1 q1 e12 e112 e149 e151 e13 e14 hsp hi1 fin; lia)) ?_
        rw [if_pos rfl]; exact fin 14
    · have ha2 : M 6 12 = 1200 := hor.resolve_left c12
      refine q_240g ho0 (by (clear hg hk1 hs0 hs hV hW h0 h12 hk h hor hi ha2; omega)) ?_
      have e12 : up_ M 6 15 (M 6 15 + 1) 6 12 = M 6 12 := up_off (by decide)
      have e149 : up_ M 6 15 (M 6 15 + 1) 149 = M 149 := up_ne (by decide)
      have e151 : up_ M 6 15 (M 6 15 + 1) 151 = M 151 := up_ne (by decide)
      have e112 : up_ M 6 15 (M 6 15 + 1) 6 112 = M 6 112 := up_off (by decide)
      have hi1 : in9_ (up_ M 6 15 (M 6 15 + 1)) := by unfold in9_; rw [e12]; exact hi
      have fin : ∀ s : Int, Tr_ wd0 pg0 (d + 2) 273 [.inr (.inr 6), .inl s, .inl (up_ M 6 15 (M 6 15 + 1) 6 12)] (up_ M 6 15 (M 6 15 + 1)) (rv_ fun M3 => Tr_ wd0 pg0 (d + 2) 230 [.inr (.inr 6)] M3 (rv_ fun M4 => bl_ 0 ∧ ri_ K [.inl 0] M4) Qt) Qt := by
        intro s
        rw [e12]
        refine q_273 (by rw [e112]; exact hs0) (by rw [e112]; exact hs) ?_
        have hok : ok_ (ho_ (up_ M 6 15 (M 6 15 + 1)) s (M 6 12)) := by unfold ok_; rw [ho_6 (by decide), ho_6 (by decide), up_off (by decide), up_off (by decide)]; exact hg
        refine q_230r hok (by rw [ho_6 (by decide), e12]; exact ha2) ⟨.inl rfl, ri_i (h _ (bf_sp hok.2 (by decide)) ?_ bf_13 ?_ (QF_tr oq_QF (QF_tr ho_QF bf_QF)))⟩
        · unfold in9_; rw [bf_6 (by decide) (by decide), ho_6 (by decide), e12]; exact hi
        · rw [bf_14, ho_6 (by decide), e12, ho_r (by decide) (by decide) (by decide), up_ne (by decide)]
      unfold KQ at hk
      by_cases c : k = 245
      · refine q_237t hi1 (by rw [e149, e12]; (clear hg hk1 hs0 hs hV hW h0 h12 h hi ha2 e12 e149 e151 e112 hi1 fin; lia)) (by rw [e151, e12]; (clear hg hk1 hs0 hs hV hW h0 h12 h hi ha2 e12 e149 e151 e112 hi1 fin; lia)) ?_
        rw [if_neg (by decide)]; exact fin 13
      · refine q_237f hi1 (by rw [e149, e151, e12]; (clear hg hk1 hs0 hs hV hW h0 h12 h hi ha2 e12 e149 e151 e112 hi1 fin; lia)) ?_
        rw [if_pos rfl]; exact fin 14
  unfold KQ at hk
  refine ⟨hi, ?_⟩
  by_cases c : k = 245
  · refine q_237t hi (by (clear hg hk1 hs0 hs hV hW h0 h12 h ho0 ho1 hi at28; lia)) (by (clear hg hk1 hs0 hs hV hW h0 h12 h ho0 ho1 hi at28; lia)) ?_
    rw [if_neg (by decide)]; exact at28
  · refine q_237f hi (by (clear hg hk1 hs0 hs hV hW h0 h12 h ho0 ho1 hi at28; omega)) ?_
    rw [if_pos rfl]
    refine q_229t hi (by (clear hg hs0 hs hV hW h0 h12 h ho0 ho1 hi at28; lia)) (by (clear hg hs0 hs hV hW h0 h12 h ho0 ho1 hi at28; lia)) ?_
    rw [if_neg (by decide)]; exact at28)
/-- a bracket more: its sign, the comparison in it -/
theorem q_274 [Inhabited gh_] {x y : Int} (hs0 : 0 ≤ M 6 112) (hs : M 6 112 < 1240) (hb0 : 0 ≤ M 6 118) (hb : M 6 118 < 39) (h : Kv (br_ (ho_ M x y))) : Tr_ wd0 pg0 (d + 2) 274 [.inr (.inr 6), .inl x, .inl y] M (rv_ Kv) Qt := t_274 fun V hV hW => b_274_0 (Tr_mono _) hV hW x y M (by
  refine q_273 hs0 hs ?_
  have e : ho_ M x y 6 118 = M 6 118 := ho_6 (by decide)
  rw [e, w32_id (by (clear hs0 hs h hV hW; lia)) (by omega)]
  refine ⟨⟨by omega, .inl rfl⟩, rv_i ?_⟩
  unfold br_ at h
  rw [e] at h
  exact h)
/-- an opening bracket -/
theorem q_272r [Inhabited gh_] (ha : M 6 12 = a) (h0 : 0 ≤ a) (h12 : a < 1200) (hg : go_ M) (hk : KQ 240 (M 149 a) (M 151 a)) (ho : M 6 15 = o) (ho0 : 0 ≤ o) (ho1 : o < 12) (hs0 : 0 ≤ M 6 112) (hs : M 6 112 < 1240) (hb0 : 0 ≤ M 6 118) (hb : M 6 118 < 39)
    (h : K 0 (br_ (ho_ (nx_ (up_ M 6 15 (o + 1))) 1 a))) : Tr_ wd0 pg0 (d + 4) 272 [.inr (.inr 6)] M (ri_ K) Qt := t_272 fun V hV hW => b_272_0 (Tr_mono _) hV hW M (by
  subst ha
  subst ho
  have hi : in9_ M := ⟨by omega, by omega⟩
  unfold KQ at hk
  refine ⟨hi, q_237f hi (by (clear hg hs0 hs hb0 hb hV hW h0 h12 ho0 ho1 h hi; lia)) ?_⟩
  rw [if_pos rfl]
  refine q_229f hi (by (clear hg hs0 hs hb0 hb hV hW h0 h12 ho0 ho1 h hi; lia)) ?_
  rw [if_pos rfl]
  refine q_237t hi (by (clear hg hs0 hs hb0 hb hV hW h0 h12 ho0 ho1 h hi; lia)) (by (clear hg hs0 hs hb0 hb hV hW h0 h12 ho0 ho1 h hi; lia)) ?_
  rw [if_neg (by decide)]
  refine q_239g hg h0 h12 (by omega) (by omega) ho0 ho1 ?_
  have hg1 : go_ (nx_ (up_ M 6 15 (M 6 15 + 1))) := by unfold go_; rw [nx_6 (by decide), nx_6 (by decide), up_off (by decide), up_off (by decide)]; exact hg
  refine q_227g hg1 ?_
  rw [if_pos rfl]
  refine q_274 (by rw [nx_6 (by decide), up_off (by decide)]; exact hs0) (by rw [nx_6 (by decide), up_off (by decide)]; exact hs) (by rw [nx_6 (by decide), up_off (by decide)]; exact hb0) (by rw [nx_6 (by decide), up_off (by decide)]; exact hb) ⟨.inl rfl, ri_i h⟩)
theorem q_272rr [Inhabited gh_] (ha : M 6 12 = a) (h0 : 0 ≤ a) (h12 : a ≤ 1200) (hg : ok_ M) (hk : KQ 240 (M 149 a) (M 151 a)) (ho : M 6 15 = o) (ho0 : 0 ≤ o) (ho1 : o ≤ 12) (hor : o = 12 ∨ a = 1200)
    (h : ∀ M', sp_ M' → in9_ M' → M' 6 13 = 2 → M' 6 14 = M 150 a → QF M M' → K 0 M') : Tr_ wd0 pg0 (d + 4) 272 [.inr (.inr 6)] M (ri_ K) Qt := t_272 fun V hV hW => b_272_0 (Tr_mono _) hV hW M (by
  subst ha
  subst ho
  have hi : in9_ M := ⟨by omega, by omega⟩
  unfold KQ at hk
  refine ⟨hi, q_237f hi (by (clear hg hV hW h0 h12 h ho0 ho1 hi; lia)) ?_⟩
  rw [if_pos rfl]
  refine q_229f hi (by (clear hg hV hW h0 h12 h ho0 ho1 hi; lia)) ?_
  rw [if_pos rfl]
  refine q_237t hi (by (clear hg hV hW h0 h12 h ho0 ho1 hi; lia)) (by (clear hg hV hW h0 h12 h ho0 ho1 hi; lia)) ?_
  rw [if_neg (by decide)]
  by_cases c12 : M 6 15 = 12
  · refine q_239o hg hi (by omega) (by (clear hg hV hW h0 h12 h ho0 ho1 hi c12; omega)) c12 ?_
    have hsp : sp_ (bf_ (up_ M 6 15 13) 2 (M 150 (M 6 12))) := bf_sp (by rw [up_off (by decide)]; exact hg.2) (by decide)
    refine q_227s hsp ?_
    rw [if_neg (by decide)]
    exact ⟨.inl rfl, ri_i (h _ hsp (by unfold in9_; rw [bf_6 (by decide) (by decide), up_off (by decide)]; exact hi) bf_13 bf_14 (QF_tr oq_QF bf_QF))⟩
  · have ha2 : M 6 12 = 1200 := hor.resolve_left c12
    refine q_239r hg ha2 (by (clear hg hV hW h0 h12 h hi ha2; lia)) (by (clear hg hV hW h0 h12 h hi ha2; lia)) ho0 (by omega) ?_
    have hsp : sp_ (bf_ (up_ M 6 15 (M 6 15 + 1)) 2 (M 150 (M 6 12))) := bf_sp (by rw [up_off (by decide)]; exact hg.2) (by decide)
    refine q_227s hsp ?_
    rw [if_neg (by decide)]
    exact ⟨.inl rfl, ri_i (h _ hsp (by unfold in9_; rw [bf_6 (by decide) (by decide), up_off (by decide)]; exact hi) bf_13 bf_14 (QF_tr oq_QF bf_QF))⟩)
end QP
end T81_er
section T82_er
/-! first: numbers and words -/
section FI
variable {dq D n d : Nat} {b F : Int} {Mx Mq Mx' Mq' M : mm_} {a o : Int} {sg : List (Int × Int)} {ws : List (Int × Int × Int)} {c : Int} {cm : List Int} {f : Int} {fm : List (Int × Int)} {cc : Int} {cd : List Int} {K : Int → mm_ → Prop} {Kv : mm_ → Prop} {Qr : qr_} {Qt : qt_} {V : vv_}
theorem XW_i [Inhabited gh_] {v : Int} (hg : go_ Mq) (hx : XF Mx Mx') (h : ∀ (K : Int → mm_ → Prop) (Qt : qt_), (∀ M', sp_ M' → in9_ M' → M' 6 13 = Mx' 1 4 → P14 Mx' M' → QF Mq M' → K v M') → Tr_ wd0 pg0 (dq + 10) 272 [.inr (.inr 6)] Mq (ri_ K) Qt) : XW dq 0 Mx Mq Mx' := ⟨hx, fun V Qr Qt hV hW q => by
  refine b_271_26 (Tr_mono _) hV hW 0 1 Mq ?_
  rw [if_neg (by decide)]
  refine q_227g hg ?_
  rw [if_pos rfl, if_pos rfl]
  exact h _ Qt fun M' h1 h2 h3 h4 h5 => l_271_st hV hW h1 (q M' v 1 h1 h2 h3 h4 h5)⟩
theorem x_153 [Inhabited gh_] {v s : Int} (hi : iX_ M) (h2 : M 1 2 = 5) (h5 : 0 ≤ M 5 3) (h5' : M 5 3 < 11999) (hg : M 1 3 < 1200 → K s (pX_ (pX_ (nX_ M) 0) v)) (hr : M 1 3 = 1200 → Qt 8 (flX_ M 2 (M 1 3))) : Tr_ wd0 pg0 (d + 3) 153 [.inr (.inr 1), .inl v, .inl s] M (ri_ K) Qt := t_153 fun V hV hW => b_153_0 (Tr_mono _) hV hW v s M (x_105 hi (fun h => by
  have e5 : nX_ M 5 3 = M 5 3 := by rw [nX_ne (by decide)]
  have e6 : pX_ (nX_ M) 0 5 3 = M 5 3 ∨ pX_ (nX_ M) 0 5 3 = M 5 3 + 1 := by
    unfold pX_; split
    · exact .inl e5
    · rw [up_at, e5]; exact .inr rfl
  refine x_138 (by rw [nX_1 (by decide)]; exact h2) (by rw [e5]; exact h5) (by rw [e5]; omega) ?_
  refine x_138 (by rw [pX_1, nX_1 (by decide)]; exact h2) (by rcases e6 with e | e <;> omega) (by rcases e6 with e | e <;> omega) ?_
  exact ri_i (hg h)) hr)
theorem x_154 [Inhabited gh_] {v s : Int} (hi : iX_ M) (h2 : M 1 2 = 5) (h5 : 0 ≤ M 5 3) (h5' : M 5 3 < 11999) (hg : M 1 3 < 1200 → K s (pX_ (nX_ M) v)) (hr : M 1 3 = 1200 → Qt 8 (flX_ M 2 (M 1 3))) : Tr_ wd0 pg0 (d + 3) 154 [.inr (.inr 1), .inl v, .inl s] M (ri_ K) Qt := t_154 fun V hV hW => b_154_0 (Tr_mono _) hV hW v s M (x_105 hi (fun h => by
  have e5 : nX_ M 5 3 = M 5 3 := by rw [nX_ne (by decide)]
  refine x_138 (by rw [nX_1 (by decide)]; exact h2) (by rw [e5]; exact h5) (by rw [e5]; omega) ?_
  exact ri_i (hg h)) hr)
theorem ER_st2 [Inhabited gh_] (h : ER b F Mx Mq a o) : 0 ≤ Mx 5 3 ∧ Mx 5 3 < 11999 := by
  have h1 := h.1.2.1
  have h2 := h.2.2.2.2.2.2.2.2.2.2.2.2.2.1
  have h3 := h.2.2.2.2.2.2.2.2.2.2.2.2.2.2
  clear h
  omega
theorem ER_goq [Inhabited gh_] (h : ER b F Mx Mq a o) : go_ Mq := by
  unfold go_; rw [h.2.2.2.2.2.2.2.1]
  rcases h.2.2.2.2.2.2.2.2.1 with h9 | h9
  · left; rw [h.2.2.2.2.2.2.2.2.2.1 h9]; omega
  · right; omega
theorem ER_ok [Inhabited gh_] (h : ER b F Mx Mq a o) (hb : b = 0) : ok_ Mq := ⟨h.2.2.2.2.2.2.2.2.2.1 hb, by rw [h.2.2.2.2.2.2.2.1]; exact hb⟩
/-- what a leaf leaves -/
theorem leaf_EP [Inhabited gh_] {x : Int × Int} {t : Int} {y : List Int} (hR : PR b F Mx Mq a o sg ws c cm f fm cc cd) (h12 : a < 1200) (hk : Mx 70 a ≠ 102 ∧ Mx 70 a ≠ 103) {Mf : mm_} (hXF : XF Mx Mx') (hM1 : Mx' 1 = nX_ Mx 1) (hst : Mx' 5 3 = cc + (y ++ cd).length) (hXE : XE Mx' cc (y ++ cd)) (hy0 : b = 0 → y = []) (hy1 : b = 1 → y = en_1 Mq x) (hyl : (y.length : Int) ≤ 3)
    (hQF : QF Mq Mf) (hQE : QE Mf sg ws (c :: cm) f (x :: fm)) (m12 : Mf 6 12 = a + 1) (m13 : Mf 6 13 = Mq 6 13) (m14 : Mf 6 14 = Mq 6 14) (m15 : Mf 6 15 = Mq 6 15) (ht : 1 ≤ t ∧ t ≤ 3) (hts : ∀ st, ts_ Mq x st (t :: st)) :
    EP (nU n t) b F Mx Mq Mx' (ad_ Mf t (Mx 71 a) 0) a (a + 1) o sg ws c cm f fm cc cd y (t - 1) t 0 [x] ∧ (b = 1 → (0 : Int) = 1 → t - 1 = -1) := by
  obtain ⟨hT, hVT, hER, hQE0, hXE0, hL⟩ := hR
  have h5 : Mx 5 3 = cc + cd.length := hXE0.1
  have hER1 := (ER_go hER h12 hk).1
  have e16 : Mf 6 16 = Mq 6 16 := QF_16 hQF
  have hER2 : ER b F Mx' (ad_ Mf t (Mx 71 a) 0) (a + 1) o := by
    obtain ⟨e1, e2, e3, e4, e5, e6, e7, e8, e9, e10, e11, e12, e13, e14, e15⟩ := hER1
    have g5 : 0 ≤ Mx 5 3 ∧ Mx 5 3 ≤ 9 * a + 1000 := ⟨hER.2.2.2.2.2.2.2.2.2.2.2.2.2.1, hER.2.2.2.2.2.2.2.2.2.2.2.2.2.2⟩
    refine ⟨gd_c ((XF_70 hXF (r := 70) (by decide) (by decide) (by decide)).trans (nX_ne (by decide)).symm) e1, by rw [hM1]; exact e2, by rw [ad_6 (by decide)]; exact m12, by rw [hM1]; exact e4, by rw [ad_6 (by decide), m15]; rw [nx_6 (by decide)] at e5; exact e5, e6, by rw [hM1]; exact e7, by rw [ad_6 (by decide), e16]; rw [nx_6 (by decide)] at e8; exact e8, e9, fun hb => by rw [ad_6 (by decide), m13]; have := e10 hb; rw [nx_6 (by decide)] at this; exact this, ?_, by rw [hM1]; exact e12, by rw [hM1]; exact e13, ?_, ?_⟩
    · have := e11
      unfold NR at this ⊢
      rw [nx_6 (by decide), nx_6 (by decide), nx_6 (by decide)] at this
      rw [hM1, ad_6 (by decide), ad_6 (by decide), ad_6 (by decide), m13, m14, e16]
      exact this
    · rw [hst]; simp only [List.length_append]; push_cast; (clear h12 hk hXF hM1 hst hXE hy0 hy1 hQF hQE m12 m13 m14 m15 ht hts hT hVT hER hQE0 hXE0 hL e16 e1 e2 e3 e4 e5 e6 e7 e8 e9 e10 e11 e12 e13 e14 e15; lia)
    · rw [hst]; simp only [List.length_append]; push_cast; (clear h12 hk hXF hM1 hst hXE hy0 hy1 hQF hQE m13 m14 m15 ht hts hT hVT hER hQE0 hXE0 hL e16 e1 e4 e5 e6 e7 e8 e9 e10 e11 e12 e13 e14 e15; omega)
  have hfl : Mx' 1 7 = Mx 1 7 := by rw [hM1, nX_1 (by decide)]
  refine EP_atom hT (by omega) hXF (QF_tr hQF ad_QF) hER2 (ad_QE hQE) (.inl rfl) hXE hy0 (fun hb _ => hy1 hb) hyl (by (clear h12 hk hXF hM1 hst hXE hy0 hy1 hyl hQF hQE m12 m13 m14 m15 ht hts hT hVT hER hQE0 hXE0 hL h5 hER1 e16 hER2; omega)) (by (clear h12 hk hXF hM1 hst hXE hy0 hy1 hyl hQF hQE m12 m13 m14 m15 ht hts hT hVT hER hQE0 hXE0 hL h5 hER1 e16 hER2; omega)) (fun hb _ => ⟨rfl, ht.1, ht.2, hfl, ?_, hts⟩) (fun _ h => absurd h (by decide)) ?_
  · unfold fqq_; rw [ad_6 (by decide), ad_6 (by decide), m13, m14]
  · unfold nU; split <;> (clear h12 hk hXF hM1 hst hXE hy0 hy1 hyl hQF hQE m12 m13 m14 m15 ht hts hT hVT hER hQE0 hXE0 hL h5 hER1 e16 hER2 hfl; lia)
theorem Ex9_l [Inhabited gh_] {dq d : Nat} {M M' : mm_} (h : Ex9 dq M M') (hd : dq + 7 ≤ d) {Kv : mm_ → Prop} {Qt : qt_} (hk : Kv M') : Tr_ wd0 pg0 d 279 [.inr (.inr 6)] M (rv_ Kv) Qt := Tr_le hd (h Kv Qt hk)
theorem wf_ts [Inhabited gh_] {k : Int} (h1 : 31 ≤ k) (h2 : k ≤ 40) (h3 : k ≠ 39) : ∀ st, ts_ Mq (wf_ k) st (wt_ k :: st) := by
  intro st
  have : k = 31 ∨ k = 32 ∨ k = 33 ∨ k = 34 ∨ k = 35 ∨ k = 36 ∨ k = 37 ∨ k = 38 ∨ k = 40 := by lia
  rcases this with h | h | h | h | h | h | h | h | h <;> rw [h]
  · exact .inl ⟨rfl, 2, by decide, ⟨fun _ => .inr rfl, by decide, by decide⟩, rfl⟩
  · exact .inl ⟨rfl, 2, by decide, ⟨fun _ => .inl rfl, by decide, by decide⟩, rfl⟩
  · exact .inl ⟨rfl, 3, by decide, ⟨fun h => absurd h (by decide), by decide, by decide⟩, rfl⟩
  · exact .inr (.inl ⟨rfl, by decide, by decide, rfl⟩)
  · exact .inr (.inl ⟨rfl, by decide, by decide, rfl⟩)
  · exact .inr (.inl ⟨rfl, by decide, by decide, rfl⟩)
  · exact .inr (.inl ⟨rfl, by decide, by decide, rfl⟩)
  · exact .inr (.inr (.inl ⟨.inl rfl, rfl⟩))
  · exact .inr (.inr (.inl ⟨.inr rfl, rfl⟩))
/-- how a first part of one token goes on -/
def FK [Inhabited gh_] (n dq nt : Nat) (b F : Int) (Mx Mq : mm_) (a o : Int) (sg : List (Int × Int)) (ws : List (Int × Int × Int)) (c : Int) (cm : List Int) (f : Int) (fm : List (Int × Int)) (cc : Int) (cd : List Int) (K : Int → mm_ → Prop) : Prop :=
  ∀ s Mx' Mq' a' y t bd l, EP (nU n t) b F Mx Mq Mx' Mq' a a' o sg ws c cm f fm cc cd y s t bd l → (b = 1 → bd = 1 → s = -1) → (∀ M', Ex9 dq Mq' M' → Rq dq 0 Mq 1 M') → ES (Mx 70) nt o a = some a' → K s Mx'
/-- X has no room for a token: so has Q -/
theorem XW_nr [Inhabited gh_] (hR : PR b F Mx Mq a o sg ws c cm f fm cc cd) (hb : b = 0) (ha : a = 1200) (hk : Mx 70 a = 101 ∨ 31 ≤ Mx 70 a ∧ Mx 70 a ≤ 40 ∧ Mx 70 a ≠ 39) : XW dq 0 Mx Mq (flX_ Mx 2 a) := by
  obtain ⟨hT, hVT, hER, hQE, hXE, hL⟩ := hR
  have hok := ER_ok hER hb
  have h12 : Mq 6 12 = 1200 := by rw [hER.2.2.1]; exact ha
  have hKQ := (hT a hER.1).1
  have h150 : Mq 150 1200 = Mx 71 a := by rw [← ha]; exact (hT a hER.1).2.1.symm
  rw [ha] at hKQ
  rcases hk with hk | hk
  · have hv := (hT a hER.1).2.2.1 hk
    rw [ha] at hk hv
    rw [hk] at hKQ
    refine XW_i (v := 1) (ER_goq hER) fl_XF fun K Qt q => q_272nr h12 hok hKQ (by (clear hb ha hT hVT hER hQE hXE hL hok h12 hKQ h150 hk q; omega)) (by omega) hQE hL.2.2.2.2.2.2.2.1 (by have := hL.2.2.2.2.2.2.2.2; (clear hb hT hVT hER hQE hXE hL hok h12 hKQ h150 hk hv q; omega)) (q _ (bf_sp (by rw [pu_6 (by decide)]; exact hok.2) (by decide)) ?_ ?_ ?_ (QF_tr pu_QF bf_QF))
    · unfold in9_; rw [bf_6 (by decide) (by decide), pu_6 (by decide), h12]; omega
    · rw [bf_13, fl_4]
    · exact ⟨by rw [bf_14, fl_5]; exact h150, fl_b7 hER⟩
  · rw [ha] at hk
    refine XW_i (v := 1) (ER_goq hER) fl_XF fun K Qt q => q_272wr h12 hok hKQ hk.1 hk.2.1 hk.2.2 (q _ (bf_sp hok.2 (by decide)) ?_ ?_ ?_ bf_QF)
    · unfold in9_; rw [bf_6 (by decide) (by decide), h12]; omega
    · rw [bf_13, fl_4]
    · exact ⟨by rw [bf_14, fl_5]; exact h150, fl_b7 hER⟩
theorem x_num [Inhabited gh_] (hR : PR b F Mx Mq a o sg ws c cm f fm cc cd) (hk : Mx 70 a = 101) (hS : b = 1 → a < 1200) (hES : ES (Mx 70) 6 o a = gS a) (hK : FK n dq 6 b F Mx Mq a o sg ws c cm f fm cc cd K) (hQ : b = 0 → ∀ Mx', XW dq 0 Mx Mq Mx' → Qt 8 Mx') : Tr_ wd0 pg0 (D + 3) 153 [.inr (.inr 1), .inl (Mx 73 (Mx 1 3)), .inl 0] Mx (ri_ K) Qt := by
  obtain ⟨hT, hVT, hER, hQE, hXE, hL⟩ := hR
  have hR : PR b F Mx Mq a o sg ws c cm f fm cc cd := ⟨hT, hVT, hER, hQE, hXE, hL⟩
  have h3 : Mx 1 3 = a := hER.2.1
  have hst := ER_st2 hER
  have hv := (hT a hER.1).2.2.1 hk
  have hKQ := (hT a hER.1).1
  rw [hk] at hKQ
  have h150 : Mq 150 a = Mx 71 a := (hT a hER.1).2.1.symm
  refine x_153 (ER_iX hER) hVT.1 hst.1 hst.2 (fun h12 => ?_) (fun h12 => ?_)
  · rw [h3] at h12 ⊢
    have h8 : nX_ Mx 1 8 = b := by rw [nX_1 (by decide)]; exact hER.2.2.2.2.2.2.1
    have hE2 := pX_2 h8 hER.2.2.2.2.2.2.2.2.1 0 (Mx 73 a) (nX_E hXE)
    have hl := leaf_EP (n := n) (x := (1, Mx 73 a)) (t := 1) (Mf := nx_ (pu_ Mq 1 (Mx 73 a))) hR h12 (by rw [hk]; decide) (Mx' := pX_ (pX_ (nX_ Mx) 0) (Mx 73 a)) (XF_tr nX_XF (XF_tr pX_XF pX_XF)) (by rw [pX_1, pX_1]) hE2.1 hE2 (fun hb => by rw [if_pos hb]) (fun hb => by rw [if_neg (by rw [hb]; decide)]; rfl) (by split <;> simp) (QF_tr pu_QF nx_QF) (nx_QE (pu_QE hQE)) (by rw [nx_12, pu_6 (by decide), hER.2.2.1]) (by rw [nx_6 (by decide), pu_6 (by decide)]) (by rw [nx_6 (by decide), pu_6 (by decide)]) (by rw [nx_6 (by decide), pu_6 (by decide)]) (by decide) (fun st => .inl ⟨rfl, 1, by decide, ⟨fun h => absurd h (by decide), hv.2.1, hv.2.2⟩, rfl⟩)
    refine hK 0 _ _ (a + 1) _ 1 0 _ hl.1 (fun _ h => absurd h (by decide)) (fun M' hex => ?_) ?_
    · refine Rq_272 (ER_goq hER) fun K Qt hk9 => ?_
      refine q_272n (a := a) hER.2.2.1 (ER_a hER).1 h12 (ER_goq hER) hKQ (by rw [hv.1]; exact hv.2.1) (by rw [hv.1]; exact hv.2.2) hQE (by have := hL.2.2.2.2.2.2.1; (clear hk hS hES hK hQ hT hVT hER hQE hXE hL hR h3 hst hv hKQ h150 h8 hE2 hl hex hk9; omega)) hL.2.2.2.2.2.2.2.1 (by have := hL.2.2.2.2.2.2.2.2; (clear hk hS hES hK hQ hT hVT hER hQE hXE hL hR h3 hst hv hKQ h150 h8 hE2 hl hex hk9; omega)) ?_
      rw [hv.1, h150]
      exact Ex9_l hex (by (clear hk hS hES hK hQ hT hVT hER hQE hXE hL hR h3 hst hv hKQ h150 h12 h8 hE2 hl hex hk9; omega)) hk9
    · rw [hES]; unfold gS; rw [if_pos h12]
  · rw [h3] at h12 ⊢
    have hb : b = 0 := by
      rcases hER.2.2.2.2.2.2.2.2.1 with h | h
      · exact h
      · exact absurd (hS h) (by (clear hk hS hES hK hQ hT hVT hER hQE hXE hL hR h3 hst hv hKQ h150 h; lia))
    exact hQ hb _ (XW_nr hR hb h12 (.inl hk))
theorem x_word [Inhabited gh_] {k : Int} {op : Int} (hR : PR b F Mx Mq a o sg ws c cm f fm cc cd) (hk : Mx 70 a = k) (hk1 : 34 ≤ k) (hk2 : k ≤ 40) (hk3 : k ≠ 39) (hop : op = if k ≤ 38 then k - 33 else 6) (hS : b = 1 → a < 1200) (hES : ES (Mx 70) 6 o a = gS a) (hK : FK n dq 6 b F Mx Mq a o sg ws c cm f fm cc cd K) (hQ : b = 0 → ∀ Mx', XW dq 0 Mx Mq Mx' → Qt 8 Mx') : Tr_ wd0 pg0 (D + 3) 154 [.inr (.inr 1), .inl op, .inl (wt_ k - 1)] Mx (ri_ K) Qt := by
  obtain ⟨hT, hVT, hER, hQE, hXE, hL⟩ := hR
  have hR : PR b F Mx Mq a o sg ws c cm f fm cc cd := ⟨hT, hVT, hER, hQE, hXE, hL⟩
  have h3 : Mx 1 3 = a := hER.2.1
  have hst := ER_st2 hER
  have hKQ := (hT a hER.1).1
  have h150 : Mq 150 a = Mx 71 a := (hT a hER.1).2.1.symm
  refine x_154 (ER_iX hER) hVT.1 hst.1 hst.2 (fun h12 => ?_) (fun h12 => ?_)
  · rw [h3] at h12
    have h8 : nX_ Mx 1 8 = b := by rw [nX_1 (by decide)]; exact hER.2.2.2.2.2.2.1
    have hE2 := pX_1w h8 hER.2.2.2.2.2.2.2.2.1 op (nX_E hXE)
    have hen : [op] = en_1 Mq (wf_ k) := by
      have : k = 34 ∨ k = 35 ∨ k = 36 ∨ k = 37 ∨ k = 38 ∨ k = 40 := by (clear hk hop hES hK hT hVT hER hQE hXE hL hR h3 hst hKQ h150 h12 h8 hE2; lia)
      rw [hop]
      rcases this with h | h | h | h | h | h <;> (rw [h]; rfl)
    have hl := leaf_EP (n := n) (x := wf_ k) (t := wt_ k) (Mf := pu_ (nx_ Mq) (wf_ k).1 (wf_ k).2) hR h12 (by rw [hk]; (clear hk hk3 hop hS hES hK hQ hT hVT hER hQE hXE hL hR h3 hst hKQ h150 h12 h8 hE2 hen; omega)) (Mx' := pX_ (nX_ Mx) op) (XF_tr nX_XF pX_XF) (by rw [pX_1]) hE2.1 hE2 (fun hb => by rw [if_pos hb]) (fun hb => by rw [if_neg (by rw [hb]; decide)]; exact hen) (by split <;> simp) (QF_tr nx_QF pu_QF) (pu_QE (nx_QE hQE)) (by rw [pu_6 (by decide), nx_12, hER.2.2.1]) (by rw [pu_6 (by decide), nx_6 (by decide)]) (by rw [pu_6 (by decide), nx_6 (by decide)]) (by rw [pu_6 (by decide), nx_6 (by decide)]) (by unfold wt_; split; (clear hk hk1 hk2 hk3 hop hS hES hK hQ hT hVT hER hQE hXE hL hR h3 hst hKQ h150 h12 h8 hE2 hen; lia); split <;> (clear hk hk1 hk2 hk3 hop hS hES hK hQ hT hVT hER hQE hXE hL hR h3 hst hKQ h150 h12 h8 hE2 hen; lia)) (wf_ts (by (clear hk hk3 hop hS hES hK hQ hT hVT hER hQE hXE hL hR h3 hst hKQ h150 h12 h8 hE2 hen; omega)) hk2 hk3)
    refine hK _ _ _ (a + 1) _ _ 0 _ hl.1 (fun _ h => absurd h (by decide)) (fun M' hex => ?_) ?_
    · refine Rq_272 (ER_goq hER) fun K Qt hk9 => ?_
      refine q_272w (d := dq + 6) (a := a) (k := k) hER.2.2.1 (ER_a hER).1 h12 (ER_goq hER) (by rw [← hk]; exact hKQ) (by omega) hk2 hk3 hQE (by have := hL.2.2.2.2.2.2.1; (clear hk hk1 hk2 hk3 hop hS hES hK hQ hT hVT hER hQE hXE hL hR h3 hst hKQ h150 h8 hE2 hen hl hex hk9; omega)) hL.2.2.2.2.2.2.2.1 (by have := hL.2.2.2.2.2.2.2.2; (clear hk hk1 hk2 hk3 hop hS hES hK hQ hT hVT hER hQE hXE hL hR h3 hst hKQ h150 h8 hE2 hen hl hex hk9; omega)) ?_
      rw [h150]
      exact Ex9_l hex (by (clear hk hk1 hk2 hk3 hop hS hES hK hQ hT hVT hER hQE hXE hL hR h3 hst hKQ h150 h12 h8 hE2 hen hl hex hk9; lia)) hk9
    · rw [hES]; unfold gS; rw [if_pos h12]
  · rw [h3] at h12 ⊢
    have hb : b = 0 := by
      rcases hER.2.2.2.2.2.2.2.2.1 with h | h
      · exact h
      · exact absurd (hS h) (by (clear hk hk1 hk2 hk3 hop hS hES hK hQ hT hVT hER hQE hXE hL hR h3 hst hKQ h150 h; lia))
    exact hQ hb _ (XW_nr hR hb h12 (.inr (by rw [hk]; (clear hk hop hES hK hT hVT hER hQE hXE hL hR h3 hst hKQ h150; lia))))
theorem x_wpush [Inhabited gh_] {k v : Int} (hR : PR b F Mx Mq a o sg ws c cm f fm cc cd) (hk : Mx 70 a = k) (hk1 : 31 ≤ k) (hk2 : k ≤ 33) (hv : v = if k = 31 then 1 else 0) (hS : b = 1 → a < 1200) (hES : ES (Mx 70) 6 o a = gS a) (hK : FK n dq 6 b F Mx Mq a o sg ws c cm f fm cc cd K) (hQ : b = 0 → ∀ Mx', XW dq 0 Mx Mq Mx' → Qt 8 Mx') : Tr_ wd0 pg0 (D + 3) 153 [.inr (.inr 1), .inl v, .inl (wt_ k - 1)] Mx (ri_ K) Qt := by
  obtain ⟨hT, hVT, hER, hQE, hXE, hL⟩ := hR
  have hR : PR b F Mx Mq a o sg ws c cm f fm cc cd := ⟨hT, hVT, hER, hQE, hXE, hL⟩
  have h3 : Mx 1 3 = a := hER.2.1
  have hst := ER_st2 hER
  have hKQ := (hT a hER.1).1
  have h150 : Mq 150 a = Mx 71 a := (hT a hER.1).2.1.symm
  refine x_153 (ER_iX hER) hVT.1 hst.1 hst.2 (fun h12 => ?_) (fun h12 => ?_)
  · rw [h3] at h12
    have h8 : nX_ Mx 1 8 = b := by rw [nX_1 (by decide)]; exact hER.2.2.2.2.2.2.1
    have hE2 := pX_2 h8 hER.2.2.2.2.2.2.2.2.1 0 v (nX_E hXE)
    have hen : [v, 0] = en_1 Mq (wf_ k) := by
      have : k = 31 ∨ k = 32 ∨ k = 33 := by (clear hk hv hS hES hK hQ hT hVT hER hQE hXE hL hR h3 hst hKQ h150 h12 h8 hE2; lia)
      rw [hv]
      rcases this with h | h | h <;> (rw [h]; rfl)
    have hl := leaf_EP (n := n) (x := wf_ k) (t := wt_ k) (Mf := pu_ (nx_ Mq) (wf_ k).1 (wf_ k).2) hR h12 (by rw [hk]; (clear hk hv hS hES hK hQ hT hVT hER hQE hXE hL hR h3 hst hKQ h150 h12 h8 hE2 hen; omega)) (Mx' := pX_ (pX_ (nX_ Mx) 0) v) (XF_tr nX_XF (XF_tr pX_XF pX_XF)) (by rw [pX_1, pX_1]) hE2.1 hE2 (fun hb => by rw [if_pos hb]) (fun hb => by rw [if_neg (by rw [hb]; decide)]; exact hen) (by split <;> simp) (QF_tr nx_QF pu_QF) (pu_QE (nx_QE hQE)) (by rw [pu_6 (by decide), nx_12, hER.2.2.1]) (by rw [pu_6 (by decide), nx_6 (by decide)]) (by rw [pu_6 (by decide), nx_6 (by decide)]) (by rw [pu_6 (by decide), nx_6 (by decide)]) (by unfold wt_; split; omega; split <;> omega) (wf_ts (by omega) (by omega) (by omega))
    refine hK _ _ _ (a + 1) _ _ 0 _ hl.1 (fun _ h => absurd h (by decide)) (fun M' hex => ?_) ?_
    · refine Rq_272 (ER_goq hER) fun K Qt hk9 => ?_
      refine q_272w (d := dq + 6) (a := a) (k := k) hER.2.2.1 (ER_a hER).1 h12 (ER_goq hER) (by rw [← hk]; exact hKQ) (by omega) (by omega) (by omega) hQE (by have := hL.2.2.2.2.2.2.1; omega) hL.2.2.2.2.2.2.2.1 (by have := hL.2.2.2.2.2.2.2.2; omega) ?_
      rw [h150]
      exact Ex9_l hex (by omega) hk9
    · rw [hES]; unfold gS; rw [if_pos h12]
  · rw [h3] at h12 ⊢
    have hb : b = 0 := by
      rcases hER.2.2.2.2.2.2.2.2.1 with h | h
      · exact h
      · exact absurd (hS h) (by omega)
    exact hQ hb _ (XW_nr hR hb h12 (.inr (by rw [hk]; omega)))
end FI
end T82_er

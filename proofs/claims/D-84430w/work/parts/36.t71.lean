section T71_er
theorem np_le [Inhabited gh_] {q : Int × Int} {k p : Int} (h : vk_ q.1 q.2) (h1 : 1 ≤ k) (h2 : k ≤ 7) (h3 : 0 ≤ p) (h4 : p ≤ 5000) : kk_ (np_ 1 q k p).1 (np_ 1 q k p).2 ≤ kk_ q.1 q.2 ∧ vk_ (np_ 1 q k p).1 (np_ 1 q k p).2 := by
  obtain ⟨a, b⟩ := kk_np h h1 h2 h3 h4
  exact ⟨by rw [a]; omega, b⟩
theorem aq_le [Inhabited gh_] {q : Int × Int} {x : Int × Int × Int} {w : Int} (h : vk_ q.1 q.2) (h3 : 0 ≤ x.2.1) (h4 : x.2.1 ≤ 5000) : kk_ (aq_ 1 q x w).1 (aq_ 1 q x w).2 ≤ kk_ q.1 q.2 ∧ vk_ (aq_ 1 q x w).1 (aq_ 1 q x w).2 := by
  unfold aq_
  split
  · exact np_le h (by decide) (by decide) h3 h4
  · exact ⟨Int.le_refl _, h⟩
theorem rq_le [Inhabited gh_] {q : Int × Int} {x y : Int × Int × Int} {s : Int} (h : vk_ q.1 q.2) (h3 : 0 ≤ x.2.1) (h4 : x.2.1 ≤ 5000) (h5 : 0 ≤ y.2.1) (h6 : y.2.1 ≤ 5000) : kk_ (rq_ 1 q s x y).1 (rq_ 1 q s x y).2 ≤ kk_ q.1 q.2 := by
  unfold rq_
  split
  · split
    · exact (np_le h (by decide) (by decide) h5 h6).1
    · exact Int.le_refl _
  · have a := aq_le (w := rw_ s) h h3 h4
    exact Int.le_trans (aq_le a.2 h5 h6).1 a.1
/-! two parts of an e and the sign between them: the whole -/
section EB
variable {b F F2 : Int} {Mx Mq Mx1 Mq1 Mx3 Mq3 Mq4 Mh : mm_} {a a1 a3 o : Int} {sg : List (Int × Int)} {ws : List (Int × Int × Int)} {c1 c2 c3 : Int} {cm : List Int} {f : Int} {fm : List (Int × Int)} {cc : Int} {cd y1 y2 : List Int} {s1 t1 bd1 s2 t2 bd2 n1 n2 n k sgn : Int} {l1 l2 : List (Int × Int)}
theorem sh_r [Inhabited gh_] {k : Int} : 20 ≤ sh_ k ∧ sh_ k ≤ 32 := by
  unfold sh_; repeat' split
  all_goals omega
theorem ts_op [Inhabited gh_] {Mq : mm_} {s t1 t2 : Int} {r : List Int} (h1 : 20 ≤ s) (h2 : s ≤ 32) (h : if s = 25 ∨ s = 26 then t1 = t2 else t1 = rw_ s ∧ t2 = rw_ s) : ts_ Mq (s, 0) (t2 :: t1 :: r) ((if s < 25 then 1 else 2) :: r) := by
  by_cases any : s = 25 ∨ s = 26
  · rw [if_pos any] at h
    subst h
    refine .inr (.inr (.inr (.inr (.inr (.inr (.inr (.inl ⟨any, t1, r, rfl, ?_⟩)))))))
    rw [if_neg (by omega)]
  · rw [if_neg any] at h
    rw [h.1, h.2]
    exact .inr (.inr (.inr (.inr (.inr (.inr (.inr (.inr ⟨h1, h2, by omega, by omega, r, rfl, rfl⟩)))))))
theorem EP_bin [Inhabited gh_] (hT : Tks Mx Mq) (hga : gd_ Mx a) (h1 : EP n1 b F Mx Mq Mx1 Mq1 a a1 o sg ws c1 cm f fm cc cd y1 s1 t1 bd1 l1) (hsg : sgn = sh_ k) (hk : Mx 70 a1 = k) (hlv : lv_ k ≠ 0) (h12 : a1 < 1200)
    (hMh : Mh = if sgn = 25 ∨ sgn = 26 then Mx1 else hX_ Mx1 s1 (rw_ sgn - 1) a) (hF2 : F2 = if b = 0 ∨ (sgn = 25 ∨ sgn = 26) ∨ s1 = -1 ∨ s1 = rw_ sgn - 1 then F else min F (8 * Mx 71 a + 5))
    (h2 : EP n2 b F2 (nX_ Mh) (mi_ Mq1 cm.length c2 sgn a1) Mx3 Mq3 (a1 + 1) a3 o ((sgn, a1) :: sg) ((t1, Mx 71 a, bd1) :: ws) c3 cm f (l1 ++ fm) cc (y1 ++ cd) y2 s2 t2 bd2 l2)
    (hs1 : b = 1 → bd1 = 1 → s1 = -1 ∨ (s1 = rw_ sgn - 1 ∧ ¬ (sgn = 25 ∨ sgn = 26))) (hs2 : b = 1 → bd2 = 1 → s2 = -1)
    (hRd : Rd Mq3 Mq4 sgn (t1, Mx 71 a, bd1) (t2, nX_ Mh 71 (a1 + 1), bd2)) (hQ4 : QE Mq4 sg ((if sgn < 25 then 1 else 2, Mx 71 a, rb_ sgn (t1, Mx 71 a, bd1) (t2, nX_ Mh 71 (a1 + 1), bd2)) :: ws) (c3 :: cm) f ((sgn, 0) :: (l2 ++ (l1 ++ fm))))
    (hn : b = 1 → bd1 = 0 → bd2 = 0 → (if sgn = 25 ∨ sgn = 26 then t1 = t2 else t1 = rw_ sgn ∧ t2 = rw_ sgn) → n1 ≤ n ∧ n2 + 1 ≤ n) :
    EP n b F Mx Mq (pX_ (hX_ Mx3 s2 (if sgn = 25 ∨ sgn = 26 then s1 else rw_ sgn - 1) (a1 + 1)) (xo9_ sgn)) Mq4 a a3 o sg ws c3 cm f fm cc cd (if b = 0 then [] else xo9_ sgn :: (y2 ++ y1)) ((if sgn < 25 then 1 else 2) - 1) (if sgn < 25 then 1 else 2) (rb_ sgn (t1, Mx 71 a, bd1) (t2, nX_ Mh 71 (a1 + 1), bd2)) ((sgn, 0) :: (l2 ++ l1)) := by
  obtain ⟨u1, u2, u3, u4, u5, u6, u7, ⟨u8, u9, u10, u11⟩, ⟨u12, u13⟩, u14, u15⟩ := h1
  have hsr : 20 ≤ sgn ∧ sgn ≤ 32 := by rw [hsg]; exact sh_r
  have hp := tk_p hT hga
  have hb01 : b = 0 ∨ b = 1 := u4.2.2.2.2.2.2.2.2.1
  have hb8 : Mx1 1 8 = b := u4.2.2.2.2.2.2.1
  -- the middle
  have hMh' : (Mh = Mx1 ∧ F2 = F) ∨ (b = 1 ∧ Mh = nt1_ Mx1 5 a ∧ F2 = min F (8 * Mx 71 a + 5)) := by
    rw [hMh, hF2]
    by_cases any : sgn = 25 ∨ sgn = 26
    · rw [if_pos any, if_pos (.inr (.inl any))]; exact .inl ⟨rfl, rfl⟩
    · rw [if_neg any]
      rcases hX_c (M := Mx1) s1 (rw_ sgn - 1) a hb8 hb01 with h | h
      · refine .inl ⟨h.1, ?_⟩
        rw [if_pos]
        rcases h.2 with h3 | h3
        · exact .inl h3
        · exact .inr (.inr h3)
      · refine .inr ⟨h.1, h.2.2.2, ?_⟩
        rw [if_neg]
        rintro (h3 | h3 | h3 | h3)
        · omega
        · exact any h3
        · exact h.2.1 h3
        · exact h.2.2.1 h3
  have hmid := EP_mid (cm := cm) (c2 := c2) hT hga u2 u4 u8 hk hlv h12 hMh'
  rw [← hsg] at hmid
  obtain ⟨m1, m2, m3, m4⟩ := hmid
  obtain ⟨v1, v2, v3, v4, v5, v6, v7, ⟨v8, v9, v10, v11⟩, ⟨v12, v13⟩, v14, v15⟩ := h2
  have h71 : nX_ Mh 71 = Mx 71 := (XF_70 m2 (by decide) (by decide) (by decide)).trans (XF_70 u2 (by decide) (by decide) (by decide))
  have g2 : gd_ Mx (a1 + 1) := gd_c ((XF_70 m2 (r := 70) (by decide) (by decide) (by decide)).trans (XF_70 u2 (by decide) (by decide) (by decide))).symm m1.1
  have hp2 := tk_p hT g2
  rw [h71] at hRd hQ4 ⊢
  generalize hw2 : (if sgn = 25 ∨ sgn = 26 then s1 else rw_ sgn - 1) = w2
  generalize hp1e : Mx 71 a = p1 at *
  generalize hp2e : Mx 71 (a1 + 1) = p2 at *
  obtain ⟨r1, r2, r3, r4⟩ := hRd
  have hXm : XF Mx (nX_ Mh) := XF_tr u2 m2
  have hX3 : XF Mx Mx3 := XF_tr hXm v2
  have hQm : QF Mq (mi_ Mq1 cm.length c2 sgn a1) := QF_tr u3 mi_QF
  have hQ3 : QF Mq Mq3 := QF_tr hQm v3
  have h71' : Mx3 71 = Mx 71 := XF_70 hX3 (by decide) (by decide) (by decide)
  obtain ⟨w1, w3, w4, w5, w6, w7, w8, w9, w10, w11, w12, w13, w14, w15, w16⟩ := v4
  -- X behind the right part
  have hb3 : Mx3 1 8 = b := w8
  have hc := hX_c (M := Mx3) s2 w2 (a1 + 1) hb3 hb01
  generalize hMk : hX_ Mx3 s2 w2 (a1 + 1) = Mk at *
  have k1 : ∀ i : Int, i ≠ 4 → i ≠ 5 → i ≠ 7 → Mk 1 i = Mx3 1 i := fun i x y z => by rw [← hMk]; exact hX_1 x y z
  have kr : ∀ r : Nat, r ≠ 1 → Mk r = Mx3 r := fun r h => by rw [← hMk]; exact hX_r h
  have kXF : XF Mx3 Mk := by rw [← hMk]; exact hX_XF
  have hk8 : Mk 1 8 = b := by rw [k1 8 (by decide) (by decide) (by decide)]; exact hb3
  have kE : XE Mk cc (y2 ++ (y1 ++ cd)) := XE_c (by rw [kr 5 (by decide)]) (kr 142 (by decide)) v8
  have k7 : Mk 1 7 ≤ Mx3 1 7 + 1 ∧ Mx3 1 7 ≤ Mk 1 7 := by
    rcases hc with h | h
    · rw [h.1]; omega
    · rw [h.2.2.2, nt1_7]; omega
  have hXF4 : XF Mx (pX_ Mk (xo9_ sgn)) := XF_tr hX3 (XF_tr kXF pX_XF)
  have hQF4 : QF Mq Mq4 := QF_tr hQ3 r1
  have len1 : (y1.length : Int) ≤ 3 * (a1 - a) := u11
  have st1 : Mx1 5 3 = cc + (y1 ++ cd).length := u8.1
  have st1b : Mx1 5 3 ≤ 9 * a1 + 1000 := u4.2.2.2.2.2.2.2.2.2.2.2.2.2.2
  have hE4 : XE (pX_ Mk (xo9_ sgn)) cc ((if b = 0 then [] else xo9_ sgn :: (y2 ++ y1)) ++ cd) := by
    by_cases hb : b = 0
    · rw [if_pos hb, pX_0 (by rw [hk8]; exact hb)]
      rw [u9 hb, v9 hb] at kE
      exact kE
    · rw [if_neg hb]
      have := pX_E (v := xo9_ sgn) (by rw [hk8]; exact hb) kE
      rw [← List.append_assoc] at this
      exact this
  have lenY : (((if b = 0 then [] else xo9_ sgn :: (y2 ++ y1)) : List Int).length : Int) ≤ 3 * (a3 - a) := by
    split
    · simp only [List.length_nil]; omega
    · simp only [List.length_cons, List.length_append]; push_cast; omega
  have step4 : pX_ Mk (xo9_ sgn) 5 3 ≤ 9 * a3 + 1000 := by
    rw [hE4.1]
    split
    · simp only [List.nil_append]
      simp only [List.length_append] at st1; push_cast at st1; omega
    · simp only [List.cons_append, List.length_cons, List.length_append] at st1 ⊢; push_cast at st1 ⊢; omega
  have fq3 : b = 1 → bd2 = 0 → fqq_ Mq3 = fqq_ Mq1 := fun hb h => by rw [((v14 hb).1 h).2.2.2.2, mi_fq]
  -- notes
  have notes : b = 1 → _ := fun hb => bin_notes (F := F) (F2 := F2) (kx1 := 0) (kx3 := kk_ (Mx3 1 4) (Mx3 1 5)) (kx4 := kk_ (Mk 1 4) (Mk 1 5)) (q3 := fqq_ Mq3) (s := sgn) (s1 := s1) (s2 := s2) (w := rw_ sgn - 1) (w2 := w2) (p1 := p1) (p2 := p2) (t1 := t1) (t2 := t2) (bd1 := bd1) (bd2 := bd2) (fl0 := Mx 1 7) (fl1 := Mx1 1 7) (fl2 := nX_ Mh 1 7) (fl3 := Mx3 1 7) (fl4 := Mk 1 7) hsr w12.2.1 hp hp2 u6 v6 rfl hw2.symm
    ⟨fun h => ⟨((u14 hb).1 h).1, ((u14 hb).1 h).2.1, ((u14 hb).1 h).2.2.1⟩, hs1 hb⟩ ⟨fun h => ⟨((v14 hb).1 h).1, ((v14 hb).1 h).2.1, ((v14 hb).1 h).2.2.1⟩, hs2 hb⟩
    (by rw [hF2]
        by_cases c : (sgn = 25 ∨ sgn = 26) ∨ s1 = -1 ∨ s1 = rw_ sgn - 1
        · rw [if_pos (.inr c), if_pos c]
        · rw [if_neg (fun h => h.elim (fun h9 => by omega) c), if_neg c])
    w12.2.2.1
    (by rcases hc with h | h
        · rw [h.1, if_pos (by rcases h.2 with h9 | h9; omega; exact h9)]
        · rw [h.2.2.2, if_neg (by intro h9; rcases h9 with h9 | h9; exact h.2.1 h9; exact h.2.2.1 h9)]
          have := (kk_nt1 (M := Mx3) (k := 5) (t := a1 + 1) w12.1 (by decide) (by decide) (by rw [h71', hp2e]; exact hp2.1) (by rw [h71', hp2e]; exact hp2.2)).1
          rw [this, h71', hp2e])
    (fun hb1 hb2 => by
      have e := fq3 hb hb2
      have hq := ((u14 hb).2 hb1).2.2
      rw [e]
      have hm := (hT (a1 + 1) g2).2.2.2.2.1 a1 (gd_c (XF_70 u2 (r := 70) (by decide) (by decide) (by decide)).symm u4.1) (by omega)
      rw [hp2e] at hm
      show kk_ (Mq1 6 13) (Mq1 6 14) < 8 * p2
      omega)
    ⟨fun h => ((u14 hb).1 h).2.2.2.1, fun h => ((u14 hb).2 h).2.1⟩
    (by rw [nX_1 (by decide), hMh]
        by_cases any : sgn = 25 ∨ sgn = 26
        · rw [if_pos any, if_pos (.inl any)]
        · rw [if_neg any]
          rcases hX_c (M := Mx1) s1 (rw_ sgn - 1) a hb8 hb01 with h | h
          · rw [h.1, if_pos]
            rcases h.2 with h3 | h3
            · omega
            · exact .inr h3
          · rw [h.2.2.2, nt1_7, if_neg]
            rintro (h3 | h3 | h3)
            · exact any h3
            · exact h.2.1 h3
            · exact h.2.2.1 h3)
    ⟨fun h => ((v14 hb).1 h).2.2.2.1, fun h => ((v14 hb).2 h).2.1⟩
    (by rcases hc with h | h
        · rw [h.1, if_pos (by rcases h.2 with h9 | h9; omega; exact h9)]
        · rw [h.2.2.2, nt1_7, if_neg (by intro h9; rcases h9 with h9 | h9; exact h.2.1 h9; exact h.2.2.1 h9)])
  have hj : Mq3 6 16 = b := w9
  rw [hj] at r4
  have rb01 : rb_ sgn (t1, p1, bd1) (t2, p2, bd2) = 0 ∨ rb_ sgn (t1, p1, bd1) (t2, p2, bd2) = 1 := by
    unfold rb_; split
    · split
      · exact .inl rfl
      · exact .inr rfl
    · split
      · exact .inl rfl
      · exact .inr rfl
  refine ⟨by omega, hXF4, hQF4, ⟨?_, ?_, ?_, ?_, ?_, w7, ?_, ?_, hb01, ?_, ?_, ?_, ?_, ?_, step4⟩, ?_, rb01, ?_, ⟨hE4, fun hb => by rw [if_pos hb], ?_, lenY⟩, ⟨?_, ?_⟩, ?_, ?_⟩
  · exact gd_c (XF_70 (XF_tr kXF pX_XF) (by decide) (by decide) (by decide)) w1
  · rw [pX_1, k1 3 (by decide) (by decide) (by decide)]; exact w3
  · rw [r2]; exact w4
  · rw [pX_1, k1 6 (by decide) (by decide) (by decide)]; exact w5
  · rw [r3]; exact w6
  · rw [pX_1]; exact hk8
  · rw [QF_16 r1]; exact hj
  · intro hb
    have h13 : fqq_ Mq4 = fqq_ Mq3 := by
      rw [r4, hb]; unfold rq_ aq_ np_
      simp only [if_pos]
      split
      · split <;> rfl
      · split <;> split <;> rfl
    have := congrArg Prod.fst h13
    rw [show Mq4 6 13 = Mq3 6 13 from this]; exact w11 hb
  · by_cases hb : b = 1
    rotate_left
    · have hb0 : b = 0 := by omega
      have h13 : fqq_ Mq4 = fqq_ Mq3 := by
        rw [r4, hb0]; unfold rq_ aq_ np_
        simp only [if_pos]
        split
        · split <;> rfl
        · split <;> split <;> rfl
      have g13 : Mq4 6 13 = Mq3 6 13 := congrArg Prod.fst h13
      have g14 : Mq4 6 14 = Mq3 6 14 := congrArg Prod.snd h13
      have hk0 : Mk = Mx3 := by
        rcases hc with h | h
        · exact h.1
        · exact absurd h.1 hb
      have hFF : F2 = F := by rw [hF2, if_pos (.inl hb0)]
      rw [hFF] at w12
      unfold NR
      rw [pX_1, hk0, g13, g14]
      exact ⟨w12.1, w12.2.1, w12.2.2.1, w12.2.2.2.1, .inl (by rw [QF_16 r1, hj]; exact hb0)⟩
    have nn := notes hb
    rw [hb] at r4
    have e13 : Mq4 6 13 = (rq_ 1 (fqq_ Mq3) sgn (t1, p1, bd1) (t2, p2, bd2)).1 := congrArg Prod.fst r4
    have e14 : Mq4 6 14 = (rq_ 1 (fqq_ Mq3) sgn (t1, p1, bd1) (t2, p2, bd2)).2 := congrArg Prod.snd r4
    refine ⟨?_, by rw [e13, e14]; exact nn.1, by rw [pX_1, e13, e14]; exact nn.2.1, ?_⟩
    · rw [pX_1]
      rcases hc with h | h
      · rw [h.1]; exact w12.1
      · rw [h.2.2.2]
        exact (kk_nt1 (M := Mx3) (k := 5) (t := a1 + 1) w12.1 (by decide) (by decide) (by rw [h71', hp2e]; exact hp2.1) (by rw [h71', hp2e]; exact hp2.2)).2
    · refine ⟨u4.2.2.2.2.2.2.2.2.2.2.1.2.2.2.1, .inr ?_⟩
      rw [e13, e14]
      refine Int.le_trans (rq_le (q := fqq_ Mq3) w12.2.1 hp.1 hp.2 hp2.1 hp2.2) ?_
      rcases w12.2.2.2.2 with z | z
      · omega
      · rw [pX_1, k1 19 (by decide) (by decide) (by decide)]; exact z
  · rw [pX_1]; omega
  · have fb1 : Mx1 1 7 + 8 * (1201 - a1) ≤ 1000001000 - (gg_ : Int) := u4.2.2.2.2.2.2.2.2.2.2.2.2.1
    rw [pX_1]; have := k7; rcases m4 with h | h <;> omega
  · rw [hE4.1]
    have : 0 ≤ Mx1 5 3 := u4.2.2.2.2.2.2.2.2.2.2.2.2.2.1
    split
    · simp only [List.nil_append]
      have e1 := u9 (by assumption)
      rw [e1] at st1; simp only [List.nil_append] at st1; omega
    · simp only [List.cons_append, List.length_cons, List.length_append] at st1 ⊢; push_cast at st1 ⊢; omega
  · rw [List.cons_append, List.append_assoc, hp1e]; exact hQ4
  · simp only [List.length_cons, List.length_append]; push_cast; omega
  · intro hb hbd
    have nn := (notes hb).2.2.1 hbd
    rw [if_neg (by omega), u10 hb nn.2.2.1, v10 hb nn.2.2.2.1]
    show xo9_ sgn :: (er_ _ l2 ++ er_ Mq l1) = en_1 Mq (sgn, 0) ++ er_ Mq (l2 ++ l1)
    rw [en_op hsr.1, er_app, er_c hQm]; rfl
  · rw [pX_1]; rcases m4 with h | h <;> omega
  · rw [pX_1]; rcases m4 with h | h <;> omega
  · intro hb
    have nn := notes hb
    rw [hb] at r4
    refine ⟨fun hbd => ?_, fun hbd => ?_⟩
    · have n2' := nn.2.2.1 hbd
      refine ⟨rfl, by split <;> omega, by split <;> omega, by rw [pX_1]; exact n2'.2.1, ?_⟩
      rw [r4, n2'.1, fq3 hb n2'.2.2.2.1, ((u14 hb).1 n2'.2.2.1).2.2.2.2]
    · have n3 := nn.2.2.2.1 hbd
      have e13 : Mq4 6 13 = (rq_ 1 (fqq_ Mq3) sgn (t1, p1, bd1) (t2, p2, bd2)).1 := congrArg Prod.fst r4
      have e14 : Mq4 6 14 = (rq_ 1 (fqq_ Mq3) sgn (t1, p1, bd1) (t2, p2, bd2)).2 := congrArg Prod.snd r4
      refine ⟨.inr rfl, by rw [pX_1]; exact n3.1, ?_⟩
      rw [e13, e14]
      have ga3 : gd_ Mx a3 := gd_c (XF_70 hX3 (r := 70) (by decide) (by decide) (by decide)).symm w1
      have hm2 := (hT a3 ga3).2.2.2.2.1 (a1 + 1) g2 (by omega)
      have hm1 := (hT a3 ga3).2.2.2.2.1 a hga (by omega)
      rw [hp2e] at hm2
      rw [hp1e] at hm1
      rcases n3.2 with h | h | h
      · have := ((v14 hb).2 h.1).2.2
        rw [h71] at this
        have h9 := h.2
        have h8 : kk_ (fqq_ Mq3).1 (fqq_ Mq3).2 < 8 * Mx 71 a3 := this
        exact Int.lt_of_le_of_lt h9 h8
      · exact Int.lt_of_le_of_lt h (by omega)
      · exact Int.lt_of_le_of_lt h (by omega)
  · intro hb hbd st D hD
    have nn := (notes hb).2.2.1 hbd
    have hneed := hn hb nn.2.2.1 nn.2.2.2.1 nn.2.2.2.2
    have ta := u15 hb nn.2.2.1 st D (by omega)
    have tb := ty_c hQm l2 _ _ (v15 hb nn.2.2.2.1 (t1 :: st) D (by simp only [List.length_cons]; push_cast; omega))
    refine ⟨t2 :: t1 :: st, ty_app l2 l1 _ _ _ ta tb, ts_op hsr.1 hsr.2 nn.2.2.2.2, ?_⟩
    have hl1 : ∀ (l : List (Int × Int)) (s s' : List Int), ty_ Mq D l s s' → l ≠ [] → (s'.length : Int) ≤ D := by
      intro l s s' h hne
      cases l with
      | nil => exact absurd rfl hne
      | cons x t => obtain ⟨_, _, _, h3⟩ := h; exact h3
    have h2l : l2 ≠ [] := by
      intro e
      rw [e] at tb
      have h9 : t2 :: t1 :: st = t1 :: st := tb
      have := congrArg List.length h9
      simp only [List.length_cons] at this
      omega
    have := hl1 l2 _ _ tb h2l
    simp only [List.length_cons] at this ⊢
    push_cast at this ⊢
    omega
end EB
end T71_er

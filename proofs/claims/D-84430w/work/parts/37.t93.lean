section T93_er
/-! first: a variable with brackets -/
section VI
variable {dq D n d : Nat} {b F : Int} {Mx Mq Mx' Mq' M : mm_} {a o : Int} {sg : List (Int × Int)} {ws : List (Int × Int × Int)} {c : Int} {cm : List Int} {f : Int} {fm : List (Int × Int)} {cc : Int} {cd : List Int} {K : Int → mm_ → Prop} {Kv : mm_ → Prop} {Qr : qr_} {Qt : qt_} {V : vv_}
theorem kn_1 [Inhabited gh_] {r : Int} : kn_ Mq r 1 = if r = -1 then 4 else if Mq 183 (8 * Mq 6 61 + r) ≤ 0 then 5 else 0 := by
  unfold kn_
  by_cases c1 : r = -1
  · rw [if_pos c1, if_pos c1]
  · rw [if_neg c1, if_neg c1]
    by_cases c2 : Mq 183 (8 * Mq 6 61 + r) ≤ 0
    · rw [if_pos c2, if_pos c2, if_neg (by decide)]
    · rw [if_neg c2, if_neg c2, if_pos rfl]
/-- X's and Q's memories behind a closing ] -/
def xI_ (M : mm_) (s o t w1 w2 : Int) : mm_ := pX_ (pX_ (pX_ (up_ (nX_ (hX_ M s 0 t)) 1 6 o) 9) w1) w2
def qI_ (M : mm_) (o : Int) (x : Int × Int × Int) (v t p bd : Int) : mm_ := ad_ (pu_ (aM_ (cl5_ M (o + 1)) x 1) 12 v) t p bd
theorem EP_idx [Inhabited gh_] {a1 s1 t1 bd1 c' r w1 w2 s bdF : Int} {M1 N1 Mx2 Mq2 Mx1 Ms : mm_} {y : List Int} {l : List (Int × Int)} (hR : PR b F Mx Mq a o sg ws c cm f fm cc cd) (ho : 0 ≤ o ∧ o < 12) (hrr : r = -1 ∨ (0 ≤ r ∧ r < Mx 124 (Mx 1 18))) (hX1 : XF Mx M1) (hQ1 : QF Mq N1) (hX2 : XF M1 Mx2) (hQ2 : QF N1 Mq2) (h7 : Mx2 1 7 = M1 1 7) (hfq : fqq_ Mq2 = fqq_ N1)
    (hm7 : Mx 1 7 ≤ M1 1 7 ∧ M1 1 7 ≤ Mx 1 7 + 1 ∧ (b = 0 ∨ kn_ Mq r 1 = 0 → M1 1 7 = Mx 1 7 ∧ fqq_ N1 = fqq_ Mq) ∧ (b = 1 → kn_ Mq r 1 ≠ 0 → M1 1 7 = Mx 1 7 + 1 ∧ kk_ (N1 6 13) (N1 6 14) ≤ 8 * Mx 71 a + 5)) (hg2 : gd_ Mx (a + 2))
    (hP : EP (nE n t1) b F Mx2 Mq2 Mx1 Ms (a + 2) a1 (o + 1) ((2, a) :: sg) ws c' (c :: cm) f fm cc cd y s1 t1 bd1 l) (hs : b = 1 → bd1 = 1 → s1 = -1) (ha1 : a1 < 1200) (hk : Mx 70 a1 = 293)
    (hbdF : bdF = if kn_ Mq r 1 = 0 ∧ bd1 = 0 ∧ t1 = 1 then 0 else 1) (hw1 : b = 1 → bdF = 0 → w1 = Mq 184 (vq_ Mq r)) (hw2 : b = 1 → bdF = 0 → w2 = Mq 183 (vq_ Mq r)) (hs0 : b = 1 → bdF = 0 → s = ts9_ Mq r - 1) (hs1 : b = 1 → bdF = 1 → s = -1) :
    EP (nU (n + 1) (ts9_ Mq r)) b F Mx Mq (xI_ Mx1 s1 o (a + 2) w1 w2) (qI_ Ms o (t1, Mx 71 (a + 2), bd1) (vq_ Mq r) (ts9_ Mq r) (Mx 71 a) bdF) a (a1 + 1) o sg ws c cm f fm cc cd (if b = 0 then [] else w2 :: w1 :: 9 :: y) s (ts9_ Mq r) bdF ((12, vq_ Mq r) :: l) ∧ (b = 1 → (bdF = 0 ↔ xI_ Mx1 s1 o (a + 2) w1 w2 1 7 ≤ Mx 1 7)) := by
  obtain ⟨u1, u2, u3, u4, u5, u6, u7, ⟨u8, u9, u10, u11⟩, ⟨u12, u13⟩, u14, u15⟩ := hP
  obtain ⟨hT, hVT, hER, hQE, hXE, hL⟩ := hR
  have hb01 := hER.2.2.2.2.2.2.2.2.1
  have hXb : XF Mx Mx1 := XF_tr hX1 (XF_tr hX2 u2)
  have hX2' : XF Mx Mx2 := XF_tr hX1 hX2
  have hQ2' : QF Mq Mq2 := QF_tr hQ1 hQ2
  have hQb : QF Mq Ms := QF_tr hQ2' u3
  have h71 : Mx1 71 = Mx 71 := XF_70 hXb (by decide) (by decide) (by decide)
  have h712 : Mx2 71 = Mx 71 := XF_70 hX2' (by decide) (by decide) (by decide)
  have h70 : Mx1 70 = Mx 70 := XF_70 hXb (by decide) (by decide) (by decide)
  rw [h712] at u5 u14
  have hp2 := tk_p hT hg2
  have hbdF01 : bdF = 0 ∨ bdF = 1 := by rw [hbdF]; split; exact .inl rfl; exact .inr rfl
  -- X: the sort of what is in the brackets
  have hc := hX_c (M := Mx1) s1 0 (a + 2) u4.2.2.2.2.2.2.1 hb01
  have x2 : b = 1 → ((s1 = -1 ∨ s1 = 0) ↔ ¬ (bd1 = 0 ∧ t1 ≠ 1)) := by
    intro hb
    rcases u6 with h | h
    · have := (u14 hb).1 h
      constructor <;> intro h9 <;> (clear ho hrr hX1 hQ1 hX2 hQ2 h7 hfq hm7 hg2 hs ha1 hk hbdF hw1 hw2 hs0 hs1 u1 u2 u3 u4 u5 u7 u8 u9 u10 u11 u12 u13 u14 u15 hT hVT hER hQE hXE hL hb01 hXb hX2' hQ2' hQb h71 h712 h70 hp2 hbdF01 hc hb; omega)
    · have h2 := hs hb h
      exact ⟨fun _ h9 => by omega, fun _ => .inl h2⟩
  have hfl : hX_ Mx1 s1 0 (a + 2) 1 7 = Mx1 1 7 ∨ hX_ Mx1 s1 0 (a + 2) 1 7 = Mx1 1 7 + 1 := by
    rcases hc with h | h
    · rw [h.1]; exact .inl rfl
    · rw [h.2.2.2, nt1_7]; exact .inr rfl
  have hE1 : ER b F (hX_ Mx1 s1 0 (a + 2)) (aM_ Ms (t1, Mx 71 (a + 2), bd1) 1) a1 (o + 1) ∧ (b = 1 → kk_ (aM_ Ms (t1, Mx 71 (a + 2), bd1) 1 6 13) (aM_ Ms (t1, Mx 71 (a + 2), bd1) 1 6 14) ≤ kk_ (Ms 6 13) (Ms 6 14) ∧ (bd1 = 0 ∧ t1 ≠ 1 → kk_ (aM_ Ms (t1, Mx 71 (a + 2), bd1) 1 6 13) (aM_ Ms (t1, Mx 71 (a + 2), bd1) 1 6 14) ≤ 8 * Mx 71 (a + 2) + 5)) := by
    rcases hc with h | h
    · have e2 : aM_ Ms (t1, Mx 71 (a + 2), bd1) 1 = Ms ∨ b = 0 := by
        rcases hb01 with hb | hb
        · exact .inr hb
        · left
          have h9 : ¬ (bd1 = 0 ∧ t1 ≠ 1) := (x2 hb).mp (by rcases h.2 with h8 | h8; omega; exact h8)
          unfold aM_; rw [if_neg h9]
      rw [h.1]
      rcases e2 with e2 | hb
      · rw [e2]
        refine ⟨u4, fun hb => ⟨Int.le_refl _, fun h9 => ?_⟩⟩
        have := (x2 hb).mp (by rcases h.2 with h8 | h8; omega; exact h8)
        exact absurd h9 this
      · have e3 : aM_ Ms (t1, Mx 71 (a + 2), bd1) 1 = Ms := by
          unfold aM_; split
          · unfold nt_; rw [if_pos (by rw [u4.2.2.2.2.2.2.2.1]; exact hb)]
          · rfl
        rw [e3]
        exact ⟨u4, fun hb1 => by (clear ho hrr hX1 hQ1 hX2 hQ2 h7 hfq hm7 hg2 hs ha1 hk hbdF hw1 hw2 hs0 hs1 u1 u2 u3 u4 u5 u6 u7 u8 u9 u10 u11 u12 u13 u14 u15 hT hVT hER hQE hXE hL hb01 hXb hX2' hQ2' hQb h71 h712 h70 hp2 hbdF01 x2 hfl h e3; lia)⟩
    · have hb := h.1
      have h9 : bd1 = 0 ∧ t1 ≠ 1 := Classical.byContradiction fun h8 => by
        rcases (x2 hb).mpr h8 with h7 | h7
        · exact h.2.1 h7
        · exact h.2.2.1 h7
      have e2 : aM_ Ms (t1, Mx 71 (a + 2), bd1) 1 = nt_ Ms 5 (Mx 71 (a + 2)) := by unfold aM_; rw [if_pos h9]
      have hb0 := hER.2.2.2.2.2.2.2.2.2.2.2.2.1
      have hnt := ER_nt (k := 5) (t := a + 2) (p := Mx 71 (a + 2)) u4 hb (by decide) (by rw [h71]) hp2 (by have := hm7.2.1; (clear ho hrr hX1 hQ1 hX2 hQ2 hfq hg2 hs ha1 hk hbdF hw1 hw2 hs0 hs1 u1 u2 u3 u4 u5 u6 u7 u8 u9 u10 u11 u13 u14 u15 hT hVT hER hQE hXE hL hb01 hXb hX2' hQ2' hQb h71 h712 h70 hp2 hbdF01 x2 hfl h hb h9 e2 this; omega))
      rw [h.2.2.2, e2]
      refine ⟨hnt.1, fun _ => ⟨?_, fun _ => hnt.2⟩⟩
      have hq2 := u4.2.2.2.2.2.2.2.2.2.2.1.2.1
      have hfq9 : fqq_ (nt_ Ms 5 (Mx 71 (a + 2))) = np_ 1 (fqq_ Ms) 5 (Mx 71 (a + 2)) := by rw [nt_fq, u4.2.2.2.2.2.2.2.1, hb]
      have k2 := kk_np (q := fqq_ Ms) (k := 5) (p := Mx 71 (a + 2)) hq2 (by decide) (by decide) hp2.1 hp2.2
      have f13 : nt_ Ms 5 (Mx 71 (a + 2)) 6 13 = (np_ 1 (fqq_ Ms) 5 (Mx 71 (a + 2))).1 := congrArg Prod.fst hfq9
      have f14 : nt_ Ms 5 (Mx 71 (a + 2)) 6 14 = (np_ 1 (fqq_ Ms) 5 (Mx 71 (a + 2))).2 := congrArg Prod.snd hfq9
      rw [f13, f14, k2.1]
      have : kk_ (fqq_ Ms).1 (fqq_ Ms).2 = kk_ (Ms 6 13) (Ms 6 14) := rfl
      (clear ho hrr hX1 hQ1 hX2 hQ2 h7 hfq hm7 hg2 hs ha1 hk hbdF hw1 hw2 hs0 hs1 u1 u2 u3 u4 u5 u6 u7 u8 u9 u10 u11 u12 u13 u14 u15 hT hVT hER hQE hXE hL hb01 hXb hX2' hQ2' hQb h71 h712 h70 hp2 hbdF01 x2 hfl h hb h9 e2 hb0 hnt hq2 hfq9 k2 f13 f14; omega)
  obtain ⟨hE1, hkq⟩ := hE1
  obtain ⟨g1, gst, gfb⟩ := ER_go hE1 ha1 (by rw [hX_r (by decide), h70, hk]; decide)
  have g2 := ER_o g1 (o' := o) ⟨ho.1, by omega⟩
  have n53 : up_ (nX_ (hX_ Mx1 s1 0 (a + 2))) 1 6 o 5 3 = Mx1 5 3 := by rw [up_ne (by decide), nX_ne (by decide), hX_r (by decide)]
  have gst' : Mx1 5 3 + 9 ≤ 9 * (a1 + 1) + 1000 := by have := gst; rw [nX_ne (by decide), hX_r (by decide)] at this; exact this
  have p1 : ∀ (M : mm_) (v : Int), pX_ M v 5 3 ≤ M 5 3 + 1 := by
    intro M v; unfold pX_; split
    · omega
    · rw [up_at]; (clear ho hrr hX1 hQ1 hX2 hQ2 h7 hfq hm7 hg2 hs ha1 hk hbdF hw1 hw2 hs0 hs1 u1 u2 u3 u4 u5 u6 u7 u8 u9 u10 u11 u12 u13 u14 u15 hT hVT hER hQE hXE hL hb01 hXb hX2' hQ2' hQb h71 h712 h70 hp2 hbdF01 hc x2 hfl hE1 hkq g1 gst gfb g2 n53 gst'; lia)
  have q1 := p1 (up_ (nX_ (hX_ Mx1 s1 0 (a + 2))) 1 6 o) 9
  have q2 := p1 (pX_ (up_ (nX_ (hX_ Mx1 s1 0 (a + 2))) 1 6 o) 9) w1
  have g3 := ER_pX (v := w2) (ER_pX (v := w1) (ER_pX (v := 9) g2 (by (clear ho hrr hX1 hQ1 hX2 hQ2 h7 hfq hm7 hg2 hs ha1 hk hbdF hw1 hw2 hs0 hs1 u1 u2 u3 u4 u5 u6 u7 u8 u9 u10 u11 u12 u13 u14 u15 hT hVT hER hQE hXE hL hb01 hXb hX2' hQ2' hQb h71 h712 h70 hp2 hbdF01 hc x2 hfl hE1 hkq g1 gst gfb g2 p1 q1 q2; omega))) (by (clear ho hrr hX1 hQ1 hX2 hQ2 h7 hfq hm7 hg2 hs ha1 hk hbdF hw1 hw2 hs0 hs1 u1 u2 u3 u4 u5 u6 u7 u8 u9 u10 u11 u12 u13 u14 u15 hT hVT hER hQE hXE hL hb01 hXb hX2' hQ2' hQb h71 h712 h70 hp2 hbdF01 hc x2 hfl hE1 hkq g1 gst gfb g2 p1 q2; lia))) (by (clear ho hrr hX1 hQ1 hX2 hQ2 h7 hfq hm7 hg2 hs ha1 hk hbdF hw1 hw2 hs0 hs1 u1 u2 u3 u4 u5 u6 u7 u8 u9 u10 u11 u12 u13 u14 u15 hT hVT hER hQE hXE hL hb01 hXb hX2' hQ2' hQb h71 h712 h70 hp2 hbdF01 hc x2 hfl hE1 hkq g1 gst gfb g2 p1; lia))
  have a6 : ∀ i : Int, i ≠ 12 → i ≠ 15 → i ≠ 104 → i ≠ 112 → i ≠ 116 → i ≠ 118 → i ≠ 13 → i ≠ 14 → qI_ Ms o (t1, Mx 71 (a + 2), bd1) (vq_ Mq r) (ts9_ Mq r) (Mx 71 a) bdF 6 i = Ms 6 i := by
    intro i h1 h2 h3 h4 h5 h6 h7 h8
    unfold qI_; rw [ad_6 h5, pu_6 h3, aM_6 h7 h8, cl5_6 h1 h2 h4 h5 h6]
  have ecl : ∀ i : Int, i = 13 ∨ i = 14 → qI_ Ms o (t1, Mx 71 (a + 2), bd1) (vq_ Mq r) (ts9_ Mq r) (Mx 71 a) bdF 6 i = aM_ Ms (t1, Mx 71 (a + 2), bd1) 1 6 i := by
    have hc13 : cl5_ Ms (o + 1) 6 13 = Ms 6 13 := cl5_6 (by decide) (by decide) (by decide) (by decide) (by decide)
    have hc14 : cl5_ Ms (o + 1) 6 14 = Ms 6 14 := cl5_6 (by decide) (by decide) (by decide) (by decide) (by decide)
    have hc16 : cl5_ Ms (o + 1) 6 16 = Ms 6 16 := cl5_6 (by decide) (by decide) (by decide) (by decide) (by decide)
    have e1 : fqq_ (aM_ (cl5_ Ms (o + 1)) (t1, Mx 71 (a + 2), bd1) 1) = fqq_ (aM_ Ms (t1, Mx 71 (a + 2), bd1) 1) := by
      rw [aM_fq, aM_fq, hc16]; unfold fqq_; rw [hc13, hc14]
    intro i hi
    rcases hi with h | h
    · rw [h]; unfold qI_; rw [ad_6 (by decide), pu_6 (by decide)]; exact congrArg Prod.fst e1
    · rw [h]; unfold qI_; rw [ad_6 (by decide), pu_6 (by decide)]; exact congrArg Prod.snd e1
  have hE3 : ER b F (xI_ Mx1 s1 o (a + 2) w1 w2) (qI_ Ms o (t1, Mx 71 (a + 2), bd1) (vq_ Mq r) (ts9_ Mq r) (Mx 71 a) bdF) (a1 + 1) o := by
    refine ER_Q g3 ?_ ?_ ?_ ?_ ?_
    · unfold qI_; rw [ad_6 (by decide), pu_6 (by decide), aM_6 (by decide) (by decide), cl5_12, up_off (by decide), nx_12, aM_6 (by decide) (by decide)]
    · rw [ecl 13 (.inl rfl), up_off (by decide), nx_6 (by decide)]
    · rw [ecl 14 (.inr rfl), up_off (by decide), nx_6 (by decide)]
    · unfold qI_; rw [ad_6 (by decide), pu_6 (by decide), aM_6 (by decide) (by decide), cl5_15, up_at]; (clear ho hrr hX1 hQ1 hX2 hQ2 h7 hfq hm7 hg2 hs ha1 hk hbdF hw1 hw2 hs0 hs1 u1 u2 u3 u4 u5 u6 u7 u8 u9 u10 u11 u12 u13 u14 u15 hT hVT hER hQE hXE hL hb01 hXb hX2' hQ2' hQb h71 h712 h70 hp2 hbdF01 hc x2 hfl hE1 hkq g1 gst gfb g2 n53 gst' p1 q1 q2 g3 a6 ecl; lia)
    · rw [a6 16 (by decide) (by decide) (by decide) (by decide) (by decide) (by decide) (by decide) (by decide), up_off (by decide), nx_6 (by decide), aM_6 (by decide) (by decide)]
  have hXX : XF Mx (xI_ Mx1 s1 o (a + 2) w1 w2) := XF_tr hXb (XF_tr hX_XF (XF_tr nX_XF (XF_tr oX_XF (XF_tr pX_XF (XF_tr pX_XF pX_XF)))))
  have hQQ : QF Mq (qI_ Ms o (t1, Mx 71 (a + 2), bd1) (vq_ Mq r) (ts9_ Mq r) (Mx 71 a) bdF) := QF_tr hQb (QF_tr cl5_QF (QF_tr aM_QF (QF_tr pu_QF ad_QF)))
  have hQE3 : QE (qI_ Ms o (t1, Mx 71 (a + 2), bd1) (vq_ Mq r) (ts9_ Mq r) (Mx 71 a) bdF) sg ((ts9_ Mq r, Mx 71 a, bdF) :: ws) (c :: cm) f (((12, vq_ Mq r) :: l) ++ fm) := ad_QE (pu_QE (aM_QE (cl5_QE u5)))
  have m7 : xI_ Mx1 s1 o (a + 2) w1 w2 1 7 = hX_ Mx1 s1 0 (a + 2) 1 7 := by unfold xI_; rw [pX_1, pX_1, pX_1, up_off (by decide), nX_1 (by decide)]
  have m8 : up_ (nX_ (hX_ Mx1 s1 0 (a + 2))) 1 6 o 1 8 = b := g2.2.2.2.2.2.2.1
  have mXE : XE (up_ (nX_ (hX_ Mx1 s1 0 (a + 2))) 1 6 o) cc (y ++ cd) := XE_c n53 (by rw [up_ne (by decide), nX_ne (by decide), hX_r (by decide)]) u8
  have hE4 : XE (xI_ Mx1 s1 o (a + 2) w1 w2) cc ((if b = 0 then [] else w2 :: w1 :: 9 :: y) ++ cd) := by
    unfold xI_
    rcases hb01 with h | h
    · rw [if_pos h, pX_0 (by rw [pX_1, pX_1, m8]; exact h), pX_0 (by rw [pX_1, m8]; exact h), pX_0 (by rw [m8]; exact h)]
      rw [u9 h] at mXE; exact mXE
    · rw [if_neg (by (clear ho hrr hX1 hQ1 hX2 hQ2 h7 hfq hm7 hg2 hs ha1 hk hbdF hw1 hw2 hs0 hs1 u1 u2 u3 u4 u5 u6 u7 u8 u9 u10 u11 u12 u13 u14 u15 hT hVT hER hQE hXE hL hXb hX2' hQ2' hQb h71 h712 h70 hp2 hbdF01 hc x2 hfl hE1 hkq g1 gst gfb g2 n53 gst' p1 q1 q2 g3 a6 ecl hE3 hXX hQQ hQE3 m7 m8 mXE; lia))]
      exact pX_E (by rw [pX_1, pX_1, m8]; omega) (pX_E (by rw [pX_1, m8]; (clear ho hrr hX1 hQ1 hX2 hQ2 h7 hfq hm7 hg2 hs ha1 hk hbdF hw1 hw2 hs0 hs1 u1 u2 u3 u4 u5 u6 u7 u8 u9 u10 u11 u12 u13 u14 u15 hT hVT hER hQE hXE hL hXb hX2' hQ2' hQb h71 h712 h70 hp2 hbdF01 hc x2 hfl hE1 hkq g1 gst gfb g2 n53 gst' p1 q1 q2 g3 a6 ecl hE3 hXX hQQ hQE3 m7 m8 mXE; lia)) (pX_E (by rw [m8]; (clear ho hrr hX1 hQ1 hX2 hQ2 h7 hfq hm7 hg2 hs ha1 hk hbdF hw1 hw2 hs0 hs1 u1 u2 u3 u4 u5 u6 u7 u8 u9 u10 u11 u12 u13 u14 u15 hT hVT hER hQE hXE hL hXb hX2' hQ2' hQb h71 h712 h70 hp2 hbdF01 hc x2 hfl hE1 hkq g1 gst gfb g2 n53 gst' p1 q1 q2 g3 a6 ecl hE3 hXX hQQ hQE3 m7 m8 mXE; lia)) mXE))
  have ga1 : gd_ Mx a1 := gd_c (XF_70 hXb (r := 70) (by decide) (by decide) (by decide)).symm u4.1
  have ga2 : gd_ Mx (a1 + 1) := gd_c (XF_70 hXX (r := 70) (by decide) (by decide) (by decide)).symm hE3.1
  have hmA := (hT (a1 + 1) ga2).2.2.2.2.1 a1 ga1 (by (clear ho hrr hX1 hQ1 hX2 hQ2 h7 hfq hm7 hg2 hs ha1 hk hbdF hw1 hw2 hs0 hs1 u1 u2 u3 u4 u5 u6 u7 u8 u9 u10 u11 u12 u13 u14 u15 hT hVT hER hQE hXE hL hb01 hXb hX2' hQ2' hQb h71 h712 h70 hp2 hbdF01 hc x2 hfl hE1 hkq g1 gst gfb g2 n53 gst' p1 q1 q2 g3 a6 ecl hE3 hXX hQQ hQE3 m7 m8 mXE hE4 ga1 ga2; lia))
  have hmB := (hT (a1 + 1) ga2).2.2.2.2.1 (a + 2) hg2 (by (clear ho hrr hX1 hQ1 hX2 hQ2 h7 hfq hm7 hg2 hs ha1 hk hbdF hw1 hw2 hs0 hs1 u2 u3 u4 u5 u6 u7 u8 u9 u10 u11 u12 u13 u14 u15 hT hVT hER hQE hXE hL hb01 hXb hX2' hQ2' hQb h71 h712 h70 hp2 hbdF01 hc x2 hfl hE1 hkq g1 gst gfb g2 n53 gst' p1 q1 q2 g3 a6 ecl hE3 hXX hQQ hQE3 m7 m8 mXE hE4 ga1 ga2 hmA; omega))
  have hmC := (hT (a1 + 1) ga2).2.2.2.2.1 a hER.1 (by (clear ho hrr hX1 hQ1 hX2 hQ2 h7 hfq hm7 hg2 hs ha1 hk hbdF hw1 hw2 hs0 hs1 u2 u3 u4 u5 u6 u7 u8 u9 u10 u11 u12 u13 u14 u15 hT hVT hER hQE hXE hL hb01 hXb hX2' hQ2' hQb h71 h712 h70 hp2 hbdF01 hc x2 hfl hE1 hkq g1 gst gfb g2 n53 gst' p1 q1 q2 g3 a6 ecl hE3 hXX hQQ hQE3 m7 m8 mXE hE4 ga1 ga2 hmA hmB; lia))
  have good : bdF = 0 → kn_ Mq r 1 = 0 ∧ bd1 = 0 ∧ t1 = 1 := fun h => by rw [hbdF] at h; split at h; assumption; omega
  have bad : bdF = 1 → ¬ (kn_ Mq r 1 = 0 ∧ bd1 = 0 ∧ t1 = 1) := fun h h9 => by rw [hbdF, if_pos h9] at h; omega
  have fl0 : b = 1 → bdF = 0 → hX_ Mx1 s1 0 (a + 2) 1 7 = Mx 1 7 := by
    intro hb h
    obtain ⟨k1, k2, k3⟩ := good h
    have e1 := (u14 hb).1 k2
    rcases hc with h9 | h9
    · rw [h9.1, e1.2.2.2.1, h7]; exact (hm7.2.2.1 (.inr k1)).1
    · exfalso; exact h9.2.2.1 (by (clear ho hrr hX1 hQ1 hX2 hQ2 h7 hfq hm7 hg2 hs ha1 hk hbdF hw1 hw2 hs0 hs1 u1 u2 u3 u4 u5 u6 u7 u8 u9 u10 u11 u12 u13 u14 u15 hT hVT hER hQE hXE hL hb01 hXb hX2' hQ2' hQb h71 h712 h70 hp2 hbdF01 x2 hfl hE1 hkq g1 gst gfb g2 n53 gst' p1 q1 q2 g3 a6 ecl hE3 hXX hQQ hQE3 m7 m8 mXE hE4 ga1 ga2 hmA hmB hmC good bad hb h k1 k2 h9; omega))
  have fl1 : b = 1 → bdF = 1 → Mx 1 7 < hX_ Mx1 s1 0 (a + 2) 1 7 := by
    intro hb h
    have h9 := bad h
    by_cases k1 : kn_ Mq r 1 = 0
    · have e0 := (hm7.2.2.1 (.inr k1)).1
      rcases u6 with h8 | h8
      · rcases hc with h6 | h6
        · have := (x2 hb).mp (by rcases h6.2 with h5 | h5; (clear ho hrr hX1 hQ1 hX2 hQ2 h7 hfq hm7 hg2 hs ha1 hk hbdF hw1 hw2 hs0 hs1 u1 u2 u3 u4 u5 u7 u8 u9 u10 u11 u12 u13 u14 u15 hT hVT hER hQE hXE hL hb01 hXb hX2' hQ2' hQb h71 h712 h70 hp2 hbdF01 x2 hfl hE1 hkq g1 gst gfb g2 n53 gst' p1 q1 q2 g3 a6 ecl hE3 hXX hQQ hQE3 m7 m8 mXE hE4 ga1 ga2 hmA hmB hmC good bad fl0 h h9 k1 e0 h8 h6; lia); exact h5)
          exfalso; apply h9
          refine ⟨k1, h8, Classical.byContradiction fun h5 => this ⟨h8, h5⟩⟩
        · rw [h6.2.2.2, nt1_7]; (clear ho hrr hX1 hQ1 hX2 hQ2 hfq hm7 hg2 hs ha1 hk hbdF hw1 hw2 hs0 hs1 u1 u2 u3 u4 u5 u7 u8 u9 u10 u11 u12 u14 u15 hT hVT hER hQE hXE hL hb01 hXb hX2' hQ2' hQb h71 h712 h70 hp2 hbdF01 x2 hfl hE1 hkq g1 gst gfb g2 n53 gst' p1 q1 q2 g3 a6 ecl hE3 hXX hQQ hQE3 m7 m8 mXE hE4 ga1 ga2 hmA hmB hmC good bad fl0 hb h h9 k1 h8 h6; lia)
      · have := ((u14 hb).2 h8).2.1
        rcases hfl with h5 | h5 <;> (clear ho hrr hX1 hQ1 hX2 hQ2 hfq hm7 hg2 hs ha1 hk hbdF hw1 hw2 hs0 hs1 u1 u2 u3 u4 u5 u7 u8 u9 u10 u11 u12 u13 u14 u15 hT hVT hER hQE hXE hL hb01 hXb hX2' hQ2' hQb h71 h712 h70 hp2 hbdF01 hc x2 hE1 hkq g1 gst gfb g2 n53 gst' p1 q1 q2 g3 a6 ecl hE3 hXX hQQ hQE3 m7 m8 mXE hE4 ga1 ga2 hmA hmB hmC good bad fl0 hb h h9 k1 h8; omega)
    · have e0 := (hm7.2.2.2 hb k1).1
      rcases hfl with h5 | h5 <;> (clear ho hrr hX1 hQ1 hX2 hQ2 hfq hm7 hg2 hs ha1 hk hbdF hw1 hw2 hs0 hs1 u1 u2 u3 u4 u5 u6 u7 u8 u9 u10 u11 u12 u14 u15 hT hVT hER hQE hXE hL hb01 hXb hX2' hQ2' hQb h71 h712 h70 hp2 hbdF01 hc x2 hE1 hkq g1 gst gfb g2 n53 gst' p1 q1 q2 g3 a6 ecl hE3 hXX hQQ hQE3 m7 m8 mXE hE4 ga1 ga2 hmA hmB hmC good bad fl0 hb h h9 k1; omega)
  refine ⟨⟨by omega, hXX, hQQ, hE3, hQE3, hbdF01, ?_, ⟨hE4, fun hb => by rw [if_pos hb], fun hb h => ?_, ?_⟩, ⟨?_, ?_⟩, fun hb => ⟨fun h => ?_, fun h => ?_⟩, fun hb h st Dd hD => ?_⟩, fun hb => ⟨fun h => ?_, fun h => ?_⟩⟩
  · simp only [List.length_cons]; push_cast; (clear ho hrr hX1 hQ1 hX2 hQ2 h7 hfq hm7 hg2 hs ha1 hk hbdF hw1 hw2 hs0 hs1 u1 u2 u3 u4 u5 u6 u8 u9 u10 u11 u12 u13 u14 u15 hT hVT hER hQE hXE hL hb01 hXb hX2' hQ2' hQb h71 h712 h70 hp2 hbdF01 hc x2 hfl hE1 hkq g1 gst gfb g2 n53 gst' p1 q1 q2 g3 a6 ecl hE3 hXX hQQ hQE3 m7 m8 mXE hE4 ga1 ga2 hmA hmB hmC good bad fl0 fl1; omega)
  · obtain ⟨k1, k2, k3⟩ := good h
    rw [if_neg (by omega), hw1 hb h, hw2 hb h, u10 hb k2, er_c hQ2']
    rfl
  · split
    · simp only [List.length_nil]; (clear ho hrr hX1 hQ1 hX2 hQ2 h7 hfq hm7 hg2 hs ha1 hk hbdF hw1 hw2 hs0 hs1 u2 u3 u4 u5 u6 u7 u8 u9 u10 u11 u12 u13 u14 u15 hT hVT hER hQE hXE hL hb01 hXb hX2' hQ2' hQb h71 h712 h70 hp2 hbdF01 hc x2 hfl hE1 hkq g1 gst gfb g2 n53 gst' p1 q1 q2 g3 a6 ecl hE3 hXX hQQ hQE3 m7 m8 mXE hE4 ga1 ga2 hmA hmB hmC good bad fl0 fl1; lia)
    · simp only [List.length_cons]; push_cast; (clear ho hrr hX1 hQ1 hX2 hQ2 h7 hfq hm7 hg2 hs ha1 hk hbdF hw1 hw2 hs0 hs1 u1 u2 u3 u4 u5 u6 u7 u8 u9 u10 u12 u13 u14 u15 hT hVT hER hQE hXE hL hb01 hXb hX2' hQ2' hQb h71 h712 h70 hp2 hbdF01 hc x2 hfl hE1 hkq g1 gst gfb g2 n53 gst' p1 q1 q2 g3 a6 ecl hE3 hXX hQQ hQE3 m7 m8 mXE hE4 ga1 ga2 hmA hmB hmC good bad fl0 fl1; lia)
  · rw [m7]; have := hm7.2.1; rcases hfl with h | h <;> (clear ho hrr hX1 hQ1 hX2 hQ2 hfq hg2 hs ha1 hk hbdF hw1 hw2 hs0 hs1 u1 u2 u3 u4 u5 u6 u7 u8 u9 u10 u11 u13 u14 u15 hT hVT hER hQE hXE hL hb01 hXb hX2' hQ2' hQb h71 h712 h70 hp2 hbdF01 hc x2 hE1 hkq g1 gst gfb g2 n53 gst' p1 q1 q2 g3 a6 ecl hE3 hXX hQQ hQE3 m7 m8 mXE hE4 ga1 ga2 hmA hmB hmC good bad fl0 fl1 this; omega)
  · rw [m7]; have := hm7.1; rcases hfl with h | h <;> (clear ho hrr hX1 hQ1 hX2 hQ2 hfq hg2 hs ha1 hk hbdF hw1 hw2 hs0 hs1 u1 u2 u3 u4 u5 u6 u7 u8 u9 u10 u11 u12 u14 u15 hT hVT hER hQE hXE hL hb01 hXb hX2' hQ2' hQb h71 h712 h70 hp2 hbdF01 hc x2 hE1 hkq g1 gst gfb g2 n53 gst' p1 q1 q2 g3 a6 ecl hE3 hXX hQQ hQE3 m7 m8 mXE hE4 ga1 ga2 hmA hmB hmC good bad fl0 fl1 this; omega)
  · obtain ⟨k1, k2, k3⟩ := good h
    have hr0 : 0 ≤ r ∧ r < Mx 124 (Mx 1 18) := by
      rcases hrr with h9 | h9
      · rw [kn_1, if_pos h9] at k1; omega
      · exact h9
    have hva := vt_at hVT hr0.1 hr0.2
    have et : ts9_ Mq r = Mq 182 (8 * Mq 6 61 + r) := by unfold ts9_; rw [if_neg (show ¬ r = -1 by (clear ho hrr hX1 hQ1 hX2 hQ2 h7 hfq hm7 hg2 hs ha1 hk hbdF hw1 hw2 hs0 hs1 u1 u2 u3 u4 u5 u6 u7 u8 u9 u10 u11 u12 u13 u14 u15 hT hVT hER hQE hXE hL hb01 hXb hX2' hQ2' hQb h71 h712 h70 hp2 hbdF01 hc x2 hfl hE1 hkq g1 gst gfb g2 n53 gst' p1 q1 q2 g3 a6 ecl hE3 hXX hQQ hQE3 m7 m8 mXE hE4 ga1 ga2 hmA hmB hmC good bad fl0 fl1 hb h k1 k2 k3 hva; omega))]
    refine ⟨hs0 hb h, by rw [et]; exact hva.2.2.2.1, by rw [et]; exact hva.2.2.2.2.1, by rw [m7]; exact fl0 hb h, ?_⟩
    have e1 := (u14 hb).1 k2
    have e2 : aM_ Ms (t1, Mx 71 (a + 2), bd1) 1 = Ms := by unfold aM_; rw [if_neg (fun h9 => h9.2 k3)]
    have e3 : fqq_ Ms = fqq_ Mq := by rw [e1.2.2.2.2, hfq]; exact (hm7.2.2.1 (.inr k1)).2
    rw [← e3]
    unfold fqq_
    rw [ecl 13 (.inl rfl), ecl 14 (.inr rfl), e2]
  · refine ⟨.inl (hs1 hb h), by rw [m7]; exact fl1 hb h, ?_⟩
    rw [ecl 13 (.inl rfl), ecl 14 (.inr rfl)]
    have hk9 := hkq hb
    rcases u6 with h8 | h8
    · by_cases k3 : t1 = 1
      · have k1 : kn_ Mq r 1 ≠ 0 := fun h9 => bad h ⟨h9, h8, k3⟩
        have e1 := ((u14 hb).1 h8).2.2.2.2
        rw [hfq] at e1
        have e2 := (hm7.2.2.2 hb k1).2
        have e13 : Ms 6 13 = N1 6 13 := congrArg Prod.fst e1
        have e14 : Ms 6 14 = N1 6 14 := congrArg Prod.snd e1
        rw [← e13, ← e14] at e2
        (clear ho hrr hX1 hQ1 hX2 hQ2 h7 hfq hm7 hg2 hs ha1 hk hbdF hw1 hw2 hs0 hs1 u1 u2 u3 u4 u5 u7 u8 u9 u10 u11 u12 u13 u14 u15 hT hVT hER hQE hXE hL hb01 hXb hX2' hQ2' hQb h71 h712 h70 hp2 hbdF01 hc x2 hfl hE1 hkq g1 gst gfb g2 n53 gst' p1 q1 q2 g3 a6 ecl hE3 hXX hQQ hQE3 m7 m8 mXE hE4 ga1 ga2 hmA hmB good bad fl0 fl1 hb h h8 k3 k1 e1 e13 e14; omega)
      · have := hk9.2 ⟨h8, k3⟩; (clear ho hrr hX1 hQ1 hX2 hQ2 h7 hfq hm7 hg2 hs ha1 hk hbdF hw1 hw2 hs0 hs1 u1 u2 u3 u4 u5 u7 u8 u9 u10 u11 u12 u13 u14 u15 hT hVT hER hQE hXE hL hb01 hXb hX2' hQ2' hQb h71 h712 h70 hp2 hbdF01 hc x2 hfl hE1 hkq g1 gst gfb g2 n53 gst' p1 q1 q2 g3 a6 ecl hE3 hXX hQQ hQE3 m7 m8 mXE hE4 ga1 ga2 hmA hmC good bad fl0 fl1 hb h hk9 h8 k3; omega)
    · have e1 := ((u14 hb).2 h8).2.2
      (clear ho hrr hX1 hQ1 hX2 hQ2 h7 hfq hm7 hg2 hs ha1 hk hbdF hw1 hw2 hs0 hs1 u1 u2 u3 u4 u5 u7 u8 u9 u10 u11 u12 u13 u14 u15 hT hVT hER hQE hXE hL hb01 hXb hX2' hQ2' hQb h71 h712 h70 hp2 hbdF01 hc x2 hfl hE1 hkq g1 gst gfb g2 n53 gst' p1 q1 q2 g3 a6 ecl hE3 hXX hQQ hQE3 m7 m8 mXE hE4 ga1 ga2 hmB hmC good bad fl0 fl1 hb h h8; lia)
  · obtain ⟨k1, k2, k3⟩ := good h
    have hr0 : 0 ≤ r ∧ r < Mx 124 (Mx 1 18) := by
      rcases hrr with h9 | h9
      · rw [kn_1, if_pos h9] at k1; omega
      · exact h9
    have hsz : ¬ Mq 183 (8 * Mq 6 61 + r) ≤ 0 := fun h9 => by rw [kn_1, if_neg (show ¬ r = -1 by (clear ho hrr hX1 hQ1 hX2 hQ2 h7 hfq hm7 hg2 hs ha1 hk hbdF hw1 hw2 hs0 hs1 u1 u2 u3 u4 u5 u6 u7 u8 u9 u10 u11 u12 u13 u14 u15 hT hVT hER hQE hXE hL hb01 hXb hX2' hQ2' hQb h71 h712 h70 hp2 hbdF01 hc x2 hfl hE1 hkq g1 gst gfb g2 n53 gst' p1 q1 q2 g3 a6 ecl hE3 hXX hQQ hQE3 m7 m8 mXE hE4 ga1 ga2 hmA hmB hmC good bad fl0 fl1 hb h hD k1 k2 k3 h9; omega)), if_pos h9] at k1; omega
    have et : ts9_ Mq r = Mq 182 (8 * Mq 6 61 + r) := by unfold ts9_; rw [if_neg (show ¬ r = -1 by omega)]
    have ev : vq_ Mq r = 8 * Mq 6 61 + r := by unfold vq_; rw [if_neg (show ¬ r = -1 by (clear ho hrr hX1 hQ1 hX2 hQ2 h7 hfq hm7 hg2 hs ha1 hk hbdF hw1 hw2 hs0 hs1 u1 u2 u3 u4 u5 u6 u7 u8 u9 u10 u11 u12 u13 u14 u15 hT hVT hER hQE hXE hL hb01 hXb hX2' hQ2' hQb h71 h712 h70 hp2 hbdF01 hc x2 hfl hE1 hkq g1 gst gfb g2 n53 gst' p1 q1 q2 g3 a6 ecl hE3 hXX hQQ hQE3 m7 m8 mXE hE4 ga1 ga2 hmA hmB hmC good bad fl0 fl1 hb h hD k1 k2 k3 hsz et; omega))]
    have hn : nE n t1 ≤ nU (n + 1) (ts9_ Mq r) := by rw [k3]; unfold nE nU; rw [if_pos rfl]; split <;> (push_cast; (clear ho hrr hX1 hQ1 hX2 hQ2 h7 hfq hm7 hg2 hs ha1 hk hbdF hw1 hw2 hs0 hs1 u1 u2 u3 u4 u5 u6 u7 u8 u9 u10 u11 u12 u13 u14 u15 hT hVT hER hQE hXE hL hb01 hXb hX2' hQ2' hQb h71 h712 h70 hp2 hbdF01 hc x2 hfl hE1 hkq g1 gst gfb g2 n53 gst' p1 q1 q2 g3 a6 ecl hE3 hXX hQQ hQE3 m7 m8 mXE hE4 ga1 ga2 hmA hmB hmC good bad fl0 fl1 hb h hD k1 k2 k3 hr0 hsz et ev; lia))
    have hn1 : 1 ≤ nU (n + 1) (ts9_ Mq r) := by unfold nU; split <;> (push_cast; (clear ho hrr hX1 hQ1 hX2 hQ2 h7 hfq hm7 hg2 hs ha1 hk hbdF hw1 hw2 hs0 hs1 u1 u2 u3 u4 u5 u6 u7 u8 u9 u10 u11 u12 u13 u14 u15 hT hVT hER hQE hXE hL hb01 hXb hX2' hQ2' hQb h71 h712 h70 hp2 hbdF01 hc x2 hfl hE1 hkq g1 gst gfb g2 n53 gst' p1 q1 q2 g3 a6 ecl hE3 hXX hQQ hQE3 m7 m8 mXE hE4 ga1 ga2 hmA hmB hmC good bad fl0 fl1 hb h hD k1 k2 k3 hr0 hsz et ev hn; lia))
    have ht := ty_c hQ2' l st _ (u15 hb k2 st Dd (by (clear ho hrr hX1 hQ1 hX2 hQ2 h7 hfq hm7 hg2 hs ha1 hk hbdF hw1 hw2 hs0 hs1 u1 u2 u3 u4 u5 u6 u7 u8 u9 u10 u11 u12 u13 u14 u15 hT hVT hER hQE hXE hL hb01 hXb hX2' hQ2' hQb h71 h712 h70 hp2 hbdF01 hc x2 hfl hE1 hkq g1 gst gfb g2 n53 gst' p1 q1 q2 g3 a6 ecl hE3 hXX hQQ hQE3 m7 m8 mXE hE4 ga1 ga2 hmA hmB hmC good bad fl0 fl1 hb h k1 k2 k3 hr0 hsz et ev hn1; lia)))
    refine ⟨t1 :: st, ht, ?_, by simp only [List.length_cons]; push_cast; (clear ho hrr hX1 hQ1 hX2 hQ2 h7 hfq hm7 hg2 hs ha1 hk hbdF hw1 hw2 hs0 hs1 u1 u2 u3 u4 u5 u6 u7 u8 u9 u10 u11 u12 u13 u14 u15 hT hVT hER hQE hXE hL hb01 hXb hX2' hQ2' hQb h71 h712 h70 hp2 hbdF01 hc x2 hfl hE1 hkq g1 gst gfb g2 n53 gst' p1 q1 q2 g3 a6 ecl hE3 hXX hQQ hQE3 m7 m8 mXE hE4 ga1 ga2 hmA hmB hmC good bad fl0 fl1 hb h k1 k2 k3 hr0 hsz et ev hn ht; lia)⟩
    refine .inr (.inr (.inr (.inr (.inr (.inl ⟨rfl, ?_, ?_, ?_, st, by rw [k3], ?_⟩)))))
    · show 8 * Mq 6 61 ≤ vq_ Mq r; rw [ev]; (clear ho hrr hX1 hQ1 hX2 hQ2 h7 hfq hm7 hg2 hs ha1 hk hbdF hw1 hw2 hs0 hs1 u1 u2 u3 u4 u5 u6 u7 u8 u9 u10 u11 u12 u13 u14 u15 hT hVT hER hQE hXE hL hb01 hXb hX2' hQ2' hQb h71 h712 h70 hp2 hbdF01 hc x2 hfl hE1 hkq g1 gst gfb g2 n53 gst' p1 q1 q2 g3 a6 ecl hE3 hXX hQQ hQE3 m7 m8 mXE hE4 ga1 ga2 hmA hmB hmC good bad fl0 fl1 hb h hD k1 k2 k3 hsz et hn hn1 ht; lia)
    · show vq_ Mq r < 8 * Mq 6 61 + Mq 171 (Mq 6 61)
      have e171 : Mq 171 (Mq 6 61) = Mx 124 (Mx 1 18) := by rw [hVT.2.1]; exact hVT.2.2.2.2.1.2.2
      rw [ev, e171]; (clear ho hrr hX1 hQ1 hX2 hQ2 h7 hfq hm7 hg2 hs ha1 hk hbdF hw1 hw2 hs0 hs1 u1 u2 u3 u4 u5 u6 u7 u8 u9 u10 u11 u12 u13 u14 u15 hT hVT hER hQE hXE hL hb01 hXb hX2' hQ2' hQb h71 h712 h70 hp2 hbdF01 hc x2 hfl hE1 hkq g1 gst gfb g2 n53 gst' p1 q1 q2 g3 a6 ecl hE3 hXX hQQ hQE3 m7 m8 mXE hE4 ga1 ga2 hmA hmB hmC good bad fl0 fl1 hb h hD k1 k2 k3 hsz et hn hn1 ht; lia)
    · show 0 < Mq 183 (vq_ Mq r); rw [ev]; (clear ho hrr hX1 hQ1 hX2 hQ2 h7 hfq hm7 hg2 hs ha1 hk hbdF hw1 hw2 hs0 hs1 u1 u2 u3 u4 u5 u6 u7 u8 u9 u10 u11 u12 u13 u14 u15 hT hVT hER hQE hXE hL hb01 hXb hX2' hQ2' hQb h71 h712 h70 hp2 hbdF01 hc x2 hfl hE1 hkq g1 gst gfb g2 n53 gst' p1 q1 q2 g3 a6 ecl hE3 hXX hQQ hQE3 m7 m8 mXE hE4 ga1 ga2 hmA hmB hmC good bad fl0 fl1 hb h hD k1 k2 k3 hr0 et ev hn hn1 ht; lia)
    · show ts9_ Mq r :: st = Mq 182 (vq_ Mq r) :: st
      rw [et, ev]
  · rw [m7]; have := fl0 hb h; (clear ho hrr hX1 hQ1 hX2 hQ2 h7 hfq hm7 hg2 hs ha1 hk hbdF hw1 hw2 hs0 hs1 u1 u2 u3 u4 u5 u6 u7 u8 u9 u10 u11 u12 u13 u14 u15 hT hVT hER hQE hXE hL hb01 hXb hX2' hQ2' hQb h71 h712 h70 hp2 hbdF01 hc x2 hfl hE1 hkq g1 gst gfb g2 n53 gst' p1 q1 q2 g3 a6 ecl hE3 hXX hQQ hQE3 m7 m8 mXE hE4 ga1 ga2 hmA hmB hmC good bad fl0 fl1 hb h; lia)
  · rw [m7] at h
    rcases hbdF01 with h9 | h9
    · exact h9
    · have := fl1 hb h9; (clear ho hrr hX1 hQ1 hX2 hQ2 h7 hfq hm7 hg2 hs ha1 hk hbdF hw1 hw2 hs0 hs1 u1 u2 u3 u4 u5 u6 u7 u8 u9 u10 u11 u12 u13 u14 u15 hT hVT hER hQE hXE hL hb01 hXb hX2' hQ2' hQb h71 h712 h70 hp2 hc x2 hfl hE1 hkq g1 gst gfb g2 n53 gst' p1 q1 q2 g3 a6 ecl hE3 hXX hQQ hQE3 m7 m8 mXE hE4 ga1 ga2 hmA hmB hmC good bad fl0 fl1 hb h9; omega)
end VI
end T93_er
section T94_er
/-! first: a variable with brackets, X's way -/
theorem ab_x [Inhabited gh_] {t p bd : Int} : (if (if bd = 0 then ab_ (t, p, bd) 1 else 1) = 0 then (0 : Int) else 1) = if bd = 0 ∧ t = 1 then 0 else 1 := by
  have e : ab_ (t, p, bd) 1 = if bd = 0 ∧ t ≠ 1 then 1 else 0 := rfl
  rw [e]
  by_cases c1 : bd = 0
  · by_cases c2 : t = 1
    · simp [c1, c2]
    · simp [c1, c2]
  · simp [c1]
section VY
variable {dq D n d : Nat} {b F : Int} {Mx Mq Mx' Mq' M : mm_} {a o : Int} {sg : List (Int × Int)} {ws : List (Int × Int × Int)} {c : Int} {cm : List Int} {f : Int} {fm : List (Int × Int)} {cc : Int} {cd : List Int} {K : Int → mm_ → Prop} {Kv : mm_ → Prop} {Qr : qr_} {Qt : qt_} {V : vv_}
/-- what is wanted of an e -/
theorem x_145t [Inhabited gh_] {w v t : Int} {M : mm_} (hw : w ≠ -1) (ht0 : 0 ≤ t) (ht1 : t < 1202) (hf : 0 ≤ M 1 7 ∧ M 1 7 < 2147483647) (h : Kv (hX_ M v w t)) : (bl_ (M 1 8) → (if M 1 8 = 0 then rv_ Kv [] M else (if w = (-1) then rv_ Kv [] M else (if v = (-1) then rv_ Kv [] M else (if v = w then rv_ Kv [] M else Tr_ wd0 pg0 (d + 1) 116 [.inr (.inr 1), .inl 5, .inl t] M (rv_ fun M2 => rv_ Kv [] M2) Qt))))) := by
  intro _
  unfold hX_ at h
  by_cases c1 : M 1 8 = 0
  · rw [if_pos c1]; rw [if_pos (.inl c1)] at h; exact rv_i h
  · rw [if_neg c1, if_neg hw]
    by_cases c2 : v = -1
    · rw [if_pos c2]; rw [if_pos (.inr (.inl c2))] at h; exact rv_i h
    · rw [if_neg c2]
      by_cases c3 : v = w
      · rw [if_pos c3]; rw [if_pos (.inr (.inr c3))] at h; exact rv_i h
      · rw [if_neg c3]; rw [if_neg (by (clear hw ht0 ht1 hf h; lia))] at h
        exact x_116 ht0 ht1 hf.1 hf.2 (rv_i h)
theorem x_var1 [Inhabited gh_] (hE : ∀ n' : Nat, n = n' + 1 → SB 146 0 1 (nE n') (D + 4) dq (o + 1)) (ho : o = 12 - (n : Int)) (hR : PR b F Mx Mq a o sg ws c cm f fm cc cd) (hk : Mx 70 a = 100) (hk1 : Mx 70 (a + 1) = 291) (hS : b = 1 → a < 1200) (hES : a < 1200 → ES (Mx 70) 6 o a = if o = 12 then none else (gS (a + 1)).bind fun a2 => (ES (Mx 70) 0 (o + 1) a2).bind (tS (Mx 70) 293)) (hS2 : b = 1 → ES (Mx 70) 6 o a ≠ none) (hK : FK n dq 6 b F Mx Mq a o sg ws c cm f fm cc cd K) (hQ : b = 0 → ∀ Mx', XW dq 0 Mx Mq Mx' → Qt 8 Mx') : Tr_ wd0 pg0 (D + 6) 155 [.inr (.inr 1)] Mx (ri_ K) Qt := by
  refine x_155 (r := vrr Mq (Mq 151 a)) (idx := 1) hR hk hS rfl (.inl ⟨hk1, rfl⟩) (fun h12 V hV hW => ?_) hQ
  generalize hr : vrr Mq (Mq 151 a) = r
  have hES9 := hES h12
  have hR9 := hR
  obtain ⟨hT, hVT, hER, hQE, hXE, hL⟩ := hR9
  have ha := ER_a hER
  have hgo := ER_goq hER
  have hb01 := hER.2.2.2.2.2.2.2.2.1
  have ho6 := hER.2.2.2.2.2.1
  have hKQ := (hT a hER.1).1
  rw [hk] at hKQ
  have t149 : Mq 149 a = 1 := by unfold KQ at hKQ; (clear hE ho hR hk hk1 hS hES hS2 hK hQ h12 hV hW hr hES9 hT hVT hER hQE hXE hL ha hgo hb01 ho6; lia)
  obtain ⟨hER1, hst1, hfb1⟩ := ER_go hER h12 (by rw [hk]; decide)
  have g1 : gd_ Mx (a + 1) := gd_c (nX_ne (r := 70) (by decide)).symm hER1.1
  have hKQ1 := (hT (a + 1) g1).1
  rw [hk1] at hKQ1
  have t3 : Mq 149 (a + 1) = 3 ∧ Mq 151 (a + 1) = 91 := by unfold KQ at hKQ1; (clear hE ho hR hk hk1 hS hES hS2 hK hQ h12 hV hW hr hES9 hT hVT hER hQE hXE hL ha hgo hb01 ho6 hKQ t149 hER1 hst1 hfb1 g1; lia)
  have hp := tk_p hT hER.1
  have e71 : nX_ Mx 71 = Mx 71 := nX_ne (by decide)
  have hEN := ER_n (k := kn_ Mq r 1) (tk := a) hER1 kn_r (by rw [e71]; exact hp) (by (clear hE ho hR hk hk1 hS hES hS2 hK hQ h12 hV hW hr hES9 hT hVT hER hQE hXE hL ha hgo hb01 ho6 hKQ t149 hER1 hst1 g1 hKQ1 t3 hp e71; lia))
  rw [e71] at hEN
  generalize hXn : Xn_ (nX_ Mx) b (kn_ Mq r 1) a = M1 at hEN ⊢
  generalize hQn : Qn_ (nx_ Mq) b (kn_ Mq r 1) (Mx 71 a) = N1 at hEN
  obtain ⟨hE1, hN0, hN1⟩ := hEN
  have hX1 : XF Mx M1 := by rw [← hXn]; exact XF_tr nX_XF Xn_XF
  have hQ1 : QF Mq N1 := by rw [← hQn]; exact QF_tr nx_QF Qn_QF
  have hQE1 : QE N1 sg ws (c :: cm) f fm := by rw [← hQn]; exact Qn_QE (nx_QE hQE)
  have m53 : M1 5 3 = Mx 5 3 := by rw [← hXn, Xn_r (by decide), nX_ne (by decide)]
  have mXE : XE M1 cc cd := XE_c m53 (by rw [← hXn, Xn_r (by decide), nX_ne (by decide)]) hXE
  have n7 : nX_ Mx 1 7 = Mx 1 7 := nX_1 (by decide)
  have ht := hVT.2.1
  have hv8 := hVT.2.2.2.2.1
  have hrr : r = -1 ∨ (0 ≤ r ∧ r < Mx 124 (Mx 1 18)) := by
    have := vrr_r hVT (v := Mq 151 a)
    rw [hr, ht, hv8.2.2] at this; exact this
  have hm7 : Mx 1 7 ≤ M1 1 7 ∧ M1 1 7 ≤ Mx 1 7 + 1 ∧ (b = 0 ∨ kn_ Mq r 1 = 0 → M1 1 7 = Mx 1 7 ∧ fqq_ N1 = fqq_ Mq) ∧ (b = 1 → kn_ Mq r 1 ≠ 0 → M1 1 7 = Mx 1 7 + 1 ∧ kk_ (N1 6 13) (N1 6 14) ≤ 8 * Mx 71 a + 5) := by
    by_cases c1 : b = 0 ∨ kn_ Mq r 1 = 0
    · have e : M1 1 7 = Mx 1 7 := by rw [(hN0 c1).1]; exact n7
      refine ⟨by (clear hE ho hR hk hk1 hS hES hS2 hK hQ h12 hV hW hr hES9 hT hVT hER hQE hXE hL ha hgo hb01 ho6 hKQ t149 hER1 hst1 hfb1 g1 hKQ1 t3 hp e71 hXn hQn hE1 hN0 hN1 hX1 hQ1 hQE1 m53 mXE n7 ht hv8 hrr c1; lia), by (clear hE ho hR hk hk1 hS hES hS2 hK hQ h12 hV hW hr hES9 hT hVT hER hQE hXE hL ha hgo hb01 ho6 hKQ t149 hER1 hst1 hfb1 g1 hKQ1 t3 hp e71 hXn hQn hE1 hN0 hN1 hX1 hQ1 hQE1 m53 mXE n7 ht hv8 hrr c1; lia), fun _ => ⟨e, ?_⟩, fun h1 h2 => by (clear hE ho hR hk hk1 hS hES hS2 hK hQ h12 hV hW hr hES9 hT hVT hER hQE hXE hL ha hgo hb01 ho6 hKQ t149 hER1 hst1 hfb1 g1 hKQ1 t3 hp e71 hXn hQn hE1 hN0 hN1 hX1 hQ1 hQE1 m53 mXE n7 ht hv8 hrr; lia)⟩
      rw [(hN0 c1).2]; unfold fqq_; rw [nx_6 (by decide), nx_6 (by decide)]
    · have hn1 := hN1 (by (clear hE ho hR hk hk1 hS hES hS2 hK hQ h12 hV hW hr hES9 hT hVT hER hQE hXE hL ha hgo ho6 hKQ t149 hER1 hst1 hfb1 g1 hKQ1 t3 hp e71 hXn hQn hE1 hX1 hQ1 hQE1 m53 mXE n7 ht hv8; lia)) (by (clear hE ho hR hk hk1 hS hES hS2 hK hQ h12 hV hW hr hES9 hT hVT hER hQE hXE hL ha hgo hb01 ho6 hKQ t149 hER1 hst1 hfb1 g1 hKQ1 t3 hp e71 hXn hQn hE1 hN0 hN1 hX1 hQ1 hQE1 m53 mXE n7 ht hv8 hrr; lia))
      have e : M1 1 7 = Mx 1 7 + 1 := by rw [hn1.1, n7]
      exact ⟨by (clear hE ho hR hk hk1 hS hES hS2 hK hQ h12 hV hW hr hES9 hT hVT hER hQE hXE hL ha hgo hb01 ho6 hKQ t149 hER1 hst1 hfb1 g1 hKQ1 t3 hp e71 hXn hQn hE1 hN0 hN1 hX1 hQ1 hQE1 m53 mXE ht hv8 hrr c1 e; omega), by (clear hE ho hR hk hk1 hS hES hS2 hK hQ h12 hV hW hr hES9 hT hVT hER hQE hXE hL ha hgo hb01 ho6 hKQ t149 hER1 hst1 hfb1 g1 hKQ1 t3 hp e71 hXn hQn hE1 hN0 hN1 hX1 hQ1 hQE1 m53 mXE ht hv8 hrr c1 e; omega), fun h => absurd h c1, fun _ _ => ⟨e, hn1.2⟩⟩
  have hL1 : LI sg ws c cm f fm (a + 1) o := by
    obtain ⟨l1, l2, l3, l4, l5, l6, l7, l8, l9⟩ := hL
    exact ⟨l1, l2, l3, l4, l5, by (clear hE ho hR hk hk1 hS hES hS2 hK hQ h12 hV hW hr hES9 hT hVT hER hQE hXE ha hgo hb01 ho6 hKQ t149 hER1 hst1 hfb1 g1 hKQ1 t3 hp e71 hXn hQn hE1 hN0 hN1 hX1 hQ1 hQE1 m53 mXE n7 ht hv8 hrr hm7 l1 l2 l3 l4 l5 l7 l8 l9; omega), by (clear hE ho hR hk hk1 hS hES hS2 hK hQ h12 hV hW hr hES9 hT hVT hER hQE hXE ha hgo hb01 ho6 hKQ t149 hER1 hst1 hfb1 g1 hKQ1 t3 hp e71 hXn hQn hE1 hN0 hN1 hX1 hQ1 hQE1 m53 mXE n7 ht hv8 hrr hm7 l1 l2 l3 l4 l5 l6 l8 l9; omega), l8, by (clear hE ho hR hk hk1 hS hES hS2 hK hQ h12 hV hW hr hES9 hT hVT hER hQE hXE ha hgo hb01 ho6 hKQ t149 hER1 hst1 hfb1 g1 hKQ1 t3 hp e71 hXn hQn hE1 hN0 hN1 hX1 hQ1 hQE1 m53 mXE n7 ht hv8 hrr hm7 l1 l2 l3 l4 l5 l6 l7 l8; omega)⟩
  have hPR1 : PR b F M1 N1 (a + 1) o sg ws c cm f fm cc cd := ⟨Tks_c hX1 hQ1 hT, VT_c hX1 hQ1 hVT, hE1, hQE1, mXE, hL1⟩
  have m3 : M1 1 3 = a + 1 := hE1.2.1
  have m6 : M1 1 6 = o := hE1.2.2.2.1
  have m70 : M1 70 = Mx 70 := XF_70 hX1 (by decide) (by decide) (by decide)
  have m71 : M1 71 = Mx 71 := XF_70 hX1 (by decide) (by decide) (by decide)
  have e112 : N1 6 112 = sg.length := hQE1.1
  have hsl := hL.2.2.2.2.2.1
  have e118 : N1 6 118 = (cm.length : Int) := by have := hQE1.2.2.2.2.1; simp only [List.length_cons] at this; push_cast at this; (clear hE ho hR hk hk1 hS hES hS2 hK hQ h12 hV hW hr hES9 hT hVT hER hQE hXE hL ha hgo hb01 ho6 hKQ t149 hER1 hst1 hfb1 g1 hKQ1 t3 hp e71 hXn hQn hE1 hN0 hN1 hX1 hQ1 hQE1 m53 mXE n7 ht hv8 hrr hm7 hL1 hPR1 m3 m6 m70 m71 e112 hsl; lia)
  have hcl := hL.2.2.2.2.1
  have n12 : N1 6 12 = a + 1 := hE1.2.2.1
  have n15 : N1 6 15 = o := hE1.2.2.2.2.1
  have n149 : N1 149 = Mq 149 := QF_r hQ1 (by decide) (by decide)
  have n151 : N1 151 = Mq 151 := QF_r hQ1 (by decide) (by decide)
  have n150 : N1 150 (a + 1) = Mx 71 (a + 1) := by rw [QF_r hQ1 (r := 150) (by decide) (by decide)]; exact (hT (a + 1) g1).2.1.symm
  have hgo1 := ER_goq hE1
  -- Q: up to its bracket
  have q90 : ∀ (K : Int → mm_ → Prop) (Qt : qt_), Tr_ wd0 pg0 (dq + 8) 239 [.inr (.inr 6), .inl 91] N1 (rv_ fun M8 => Tr_ wd0 pg0 (dq + 8) 227 [.inr (.inr 6)] M8 (ri_ fun v1 M9 => (if v1 = 0 then Tr_ wd0 pg0 (dq + 8) 274 [.inr (.inr 6), .inl 2, .inl a] M9 (rv_ fun M10 => K 0 M10) Qt else K 0 M9)) Qt) Qt → Tr_ wd0 pg0 (dq + 10) 272 [.inr (.inr 6)] Mq (ri_ K) Qt := by
    intro K Qt h9
    refine q_272o (k := 100) (a := a) ⟨by rw [hER.2.2.1]; (clear hE ho hR hk hk1 hS hES hS2 hK hQ hV hW hr hES9 hT hVT hER hQE hXE hL hgo hb01 ho6 hKQ t149 hER1 hst1 hfb1 g1 hKQ1 t3 hp e71 hXn hQn hE1 hN0 hN1 hX1 hQ1 hQE1 m53 mXE n7 ht hv8 hrr hm7 hL1 hPR1 m6 m70 m71 e112 hsl e118 hcl n15 n149 n151 n150 hgo1 h9; lia), by rw [hER.2.2.1]; (clear hE ho hR hk hk1 hS hES hS2 hK hQ hV hW hr hES9 hT hVT hER hQE hXE hL hgo hb01 ho6 hKQ t149 hER1 hst1 hfb1 g1 hKQ1 t3 hp e71 hXn hQn hE1 hN0 hN1 hX1 hQ1 hQE1 m53 mXE n7 ht hv8 hrr hm7 hL1 hPR1 m6 m70 m71 e112 hsl e118 hcl n15 n149 n151 n150 hgo1 h9; omega)⟩ hER.2.2.1 hKQ ⟨by decide, by decide, by decide⟩ ?_
    rw [if_pos t149]
    have e150 : Mq 150 a = Mx 71 a := (hT a hER.1).2.1.symm
    rw [e150]
    refine q_275 (d := dq + 5) (b := b) (r := r) (idx := 1) hVT hER.2.2.1 ha.1 h12 hgo t149 hER.2.2.2.2.2.2.2.1 hb01 hr.symm (.inl ⟨t3.1, t3.2, rfl⟩) (fun V hV hW => ?_)
    rw [hQn]
    refine b_275_90 (Tr_mono _) hV hW _ _ _ _ N1 ?_
    rw [if_neg (by decide)]
    refine Tr_m h9 (fun vs N hq => ⟨hq.1, Tr_m hq.2 (fun vs N hq => ?_) (fun _ _ q => q)⟩) (fun _ _ q => q)
    obtain ⟨v1, hv, hq⟩ := hq
    refine ⟨v1, hv, ?_⟩
    by_cases c1 : v1 = 0
    · rw [if_pos c1] at hq ⊢
      exact Tr_m hq (fun vs N hq => ⟨hq.1, .inl rfl, ri_i ⟨.inl rfl, ri_i hq.2⟩⟩) (fun _ _ q => q)
    · rw [if_neg c1] at hq ⊢
      exact ⟨.inl rfl, ri_i ⟨.inl rfl, ri_i hq⟩⟩
  have fail : ∀ Mx' : mm_, b = 0 → XF Mx Mx' → Mx' 1 4 = 2 → Mx' 1 5 = Mx 71 (a + 1) → Mx' 1 7 = M1 1 7 → (o = 12 ∨ a + 1 = 1200) → Qt 8 Mx' := by
    intro Mx' hb hx h4 h5 h7 hor
    have hb7 : 0 ≤ Mx' 1 7 ∧ Mx' 1 7 ≤ 1000001000 - (gg_ : Int) := by rw [h7]; exact ER_b7 hE1
    have hok1 := ER_ok hE1 hb
    have hin1 : in9_ N1 := by unfold in9_; rw [n12]; (clear hE ho hR hk hk1 hS hES hS2 hK hQ hV hW hr hES9 hT hVT hER hQE hXE hL hgo hb01 ho6 hKQ t149 hER1 hst1 hfb1 g1 hKQ1 t3 hp e71 hXn hQn hE1 hN0 hN1 hX1 hQ1 hQE1 m53 mXE n7 ht hv8 hrr hm7 hL1 hPR1 m6 m70 m71 e112 hsl e118 hcl n15 n149 n151 n150 hgo1 q90 hb hx h4 h5 h7 hor hb7 hok1; lia)
    refine hQ hb _ (XW_i (v := 0) hgo hx fun K Qt q => q90 K Qt ?_)
    by_cases c12 : o = 12
    · refine q_239o hok1 hin1 (by rw [n149, n12]; exact t3.1) (by rw [n151, n12]; exact t3.2) (by rw [n15]; exact c12) ?_
      have hsp : sp_ (bf_ (up_ N1 6 15 13) 2 (N1 150 (N1 6 12))) := bf_sp (by rw [up_off (by decide)]; exact hok1.2) (by decide)
      refine q_227s hsp ?_
      rw [if_neg (by decide)]
      refine q _ hsp ?_ (by rw [bf_13, h4]) ⟨by rw [bf_14, h5, n12]; exact n150, hb7⟩ (QF_tr hQ1 (QF_tr oq_QF bf_QF))
      unfold in9_; rw [bf_6 (by decide) (by decide), up_off (by decide)]; exact hin1
    · have ha2 : a + 1 = 1200 := hor.resolve_left c12
      refine q_239r hok1 (by rw [n12]; exact ha2) (by rw [n149, n12]; exact t3.1) (by rw [n151, n12]; exact t3.2) (by rw [n15]; exact ho6.1) (by rw [n15]; (clear hE hR hk hk1 hS hES hS2 hK hQ h12 hV hW hr hES9 hT hVT hER hQE hXE hL ha hgo hb01 hKQ t149 hER1 hst1 hfb1 g1 hKQ1 t3 hp e71 hXn hQn hE1 hN0 hN1 hX1 hQ1 hQE1 m53 mXE n7 ht hv8 hrr hm7 hL1 hPR1 m3 m70 m71 e112 hsl e118 hcl n12 n149 n151 n150 hgo1 q90 hb hx h4 h5 h7 hor hb7 hok1 hin1 q ha2; lia)) ?_
      rw [n15]
      have hsp : sp_ (bf_ (up_ N1 6 15 (o + 1)) 2 (N1 150 (N1 6 12))) := bf_sp (by rw [up_off (by decide)]; exact hok1.2) (by decide)
      refine q_227s hsp ?_
      rw [if_neg (by decide)]
      refine q _ hsp ?_ (by rw [bf_13, h4]) ⟨by rw [bf_14, h5, n12]; exact n150, hb7⟩ (QF_tr hQ1 (QF_tr oq_QF bf_QF))
      unfold in9_; rw [bf_6 (by decide) (by decide), up_off (by decide)]; exact hin1
  refine b_155_103 (Tr_mono _) hV hW _ _ _ _ _ _ M1 ?_
  rw [if_neg (by decide)]
  refine x_118 (ER_iX hE1) (by rw [m6]; exact ho6.1) (by rw [m6]; exact ho6.2) (fun ho1 => ?_) (fun ho1 => ?_)
  · rw [m6] at ho1 ⊢
    obtain ⟨n', hn'⟩ : ∃ n' : Nat, n = n' + 1 := ⟨n - 1, by (clear hE hR hk hk1 hS hES hS2 hK hQ h12 hV hW hr hES9 hT hVT hER hQE hXE hL ha hgo hb01 hKQ t149 hER1 hst1 hfb1 g1 hKQ1 t3 hp e71 hXn hQn hE1 hN0 hN1 hX1 hQ1 hQE1 m53 mXE n7 ht hv8 hrr hm7 hL1 hPR1 m3 m70 m71 e112 hsl e118 hcl n12 n149 n151 n150 hgo1 q90 fail; lia)⟩
    rw [if_neg (by (clear hE hR hk hk1 hS hES hS2 hK hQ h12 hV hW hr hES9 hT hVT hER hQE hXE hL ha hgo hb01 hKQ t149 hER1 hst1 hfb1 g1 hKQ1 t3 hp e71 hXn hQn hE1 hN0 hN1 hX1 hQ1 hQE1 m53 mXE n7 ht hv8 hrr hm7 hL1 hPR1 m3 m70 m71 e112 hsl e118 hcl n12 n149 n151 n150 hgo1 q90 fail; lia))] at hES9
    have hi1 : iX_ (up_ M1 1 6 (o + 1)) := by unfold iX_; rw [up_off (by decide), m3]; (clear hE ho hR hk hk1 hS hES hS2 hK hQ hV hW hr hES9 hT hVT hER hQE hXE hL hgo hb01 ho6 hKQ t149 hER1 hst1 hfb1 g1 hKQ1 t3 hp e71 hXn hQn hE1 hN0 hN1 hX1 hQ1 hQE1 m53 mXE n7 ht hv8 hrr hm7 hL1 hPR1 m6 m70 m71 e112 hsl e118 hcl n15 n149 n151 n150 hgo1 q90 fail ho1 hn'; omega)
    have e13 : up_ M1 1 6 (o + 1) 1 3 = a + 1 := by rw [up_off (by decide)]; exact m3
    refine x_105 hi1 (fun h12b => ?_) (fun h12b => ?_)
    · rw [e13] at h12b
      have e2 : a + 1 + 1 = a + 2 := by (clear hE ho hR hk hk1 hS hES hS2 hK hQ h12 hV hW hr hES9 hT hVT hER hQE hXE hL ha hgo hb01 ho6 hKQ t149 hER1 hst1 hfb1 g1 hKQ1 t3 hp e71 hXn hQn hE1 hN0 hN1 hX1 hQ1 hQE1 m53 mXE n7 ht hv8 hrr hm7 hL1 hPR1 m3 m6 m70 m71 e112 hsl e118 hcl n12 n15 n149 n151 n150 hgo1 q90 fail ho1 hn' hi1 e13 h12b; lia)
      obtain ⟨p1, p2, p3, p4, p5, p6⟩ := PR_open (w := 2) (t := a) hPR1 ho1 h12b (by rw [m70, hk1]; decide) (.inr rfl) ha.1 (by (clear hE ho hR hk hk1 hS hES hS2 hK hQ hV hW hr hES9 hT hVT hER hQE hXE hL hgo hb01 ho6 hKQ t149 hER1 hst1 hfb1 g1 hKQ1 t3 hp e71 hXn hQn hE1 hN0 hN1 hX1 hQ1 hQE1 m53 mXE n7 ht hv8 hrr hm7 hL1 hPR1 m6 m70 m71 e112 hsl e118 hcl n15 n149 n151 n150 hgo1 q90 fail ho1 hn' hi1 e2; lia))
      rw [e2] at p1
      have hX2 : XF Mx (nX_ (up_ M1 1 6 (o + 1))) := XF_tr hX1 p2
      have hQ2 : QF Mq (br_ (ho_ (nx_ (up_ N1 6 15 (o + 1))) 2 a)) := QF_tr hQ1 p3
      have e70 : nX_ (up_ M1 1 6 (o + 1)) 70 = Mx 70 := XF_70 hX2 (by decide) (by decide) (by decide)
      have e72 : nX_ (up_ M1 1 6 (o + 1)) 71 = Mx 71 := XF_70 hX2 (by decide) (by decide) (by decide)
      have g2 : gd_ Mx (a + 2) := gd_c e70.symm p1.2.2.1.1
      have hr1 : Rq dq 0 Mq 0 (br_ (ho_ (nx_ (up_ N1 6 15 (o + 1))) 2 a)) := Rq_272 hgo fun K Qt hk9 => q90 K Qt (by
        refine q_239g hgo1 (by rw [n12]; (clear hE ho hR hk hk1 hS hES hS2 hK hQ hV hW hr hES9 hT hVT hER hQE hXE hL hgo hb01 ho6 hKQ t149 hER1 hst1 hfb1 g1 hKQ1 t3 hp e71 hXn hQn hE1 hN0 hN1 hX1 hQ1 hQE1 m53 mXE n7 ht hv8 hrr hm7 hL1 hPR1 m6 m70 m71 e112 hsl e118 hcl n15 n149 n151 n150 hgo1 q90 fail ho1 hn' hi1 e2 p1 p2 p3 p4 p5 p6 hX2 hQ2 e70 e72 g2 hk9; lia)) (by rw [n12]; omega) (by rw [n149, n12]; exact t3.1) (by rw [n151, n12]; exact t3.2) (by rw [n15]; exact ho6.1) (by rw [n15]; exact ho1) ?_
        rw [n15]
        have hg9 : go_ (nx_ (up_ N1 6 15 (o + 1))) := by unfold go_; rw [nx_6 (by decide), nx_6 (by decide), up_off (by decide), up_off (by decide)]; exact hgo1
        refine q_227g hg9 ?_
        rw [if_pos rfl]
        exact q_274 (by rw [nx_6 (by decide), up_off (by decide)]; omega) (by rw [nx_6 (by decide), up_off (by decide)]; (clear hE ho hR hk hk1 hS hES hS2 hK hQ hV hW hr hES9 hT hVT hER hQE hXE hL hgo hb01 ho6 hKQ t149 hER1 hst1 hfb1 g1 hKQ1 t3 hp e71 hXn hQn hE1 hN0 hN1 hX1 hQ1 hQE1 m53 mXE n7 ht hv8 hrr hm7 hL1 hPR1 m6 m70 m71 e118 hcl n15 n149 n151 n150 hgo1 q90 fail ho1 hn' hi1 e2 p1 p2 p3 p4 p5 p6 hX2 hQ2 e70 e72 g2 hk9 hg9; lia)) (by rw [nx_6 (by decide), up_off (by decide)]; (clear hE ho hR hk hk1 hS hES hS2 hK hQ h12 hV hW hr hES9 hT hVT hER hQE hXE hL ha hgo hb01 ho6 hKQ t149 hER1 hst1 hfb1 g1 hKQ1 t3 hp e71 hXn hQn hE1 hN0 hN1 hX1 hQ1 hQE1 m53 mXE n7 ht hv8 hrr hm7 hL1 hPR1 m3 m6 m70 m71 e112 hsl hcl n12 n15 n149 n151 n150 hgo1 q90 fail ho1 hn' hi1 e13 h12b e2 p1 p2 p3 p4 p5 p6 hX2 hQ2 e70 e72 g2 hk9 hg9; lia)) (by rw [nx_6 (by decide), up_off (by decide)]; (clear hE hR hk hk1 hS hES hS2 hK hQ h12 hV hW hr hES9 hT hVT hER hQE hXE hL ha hgo hb01 hKQ t149 hER1 hst1 hfb1 g1 hKQ1 t3 hp e71 hXn hQn hE1 hN0 hN1 hX1 hQ1 hQE1 m53 mXE n7 ht hv8 hrr hm7 hL1 hPR1 m3 m70 m71 e112 hsl n12 n149 n151 n150 hgo1 q90 fail hi1 e13 h12b e2 p1 p2 p3 p4 p5 p6 hX2 hQ2 e70 e72 g2 hk9 hg9; lia)) hk9)
      have hSS : b = 1 → ES (Mx 70) 0 (o + 1) (a + 2) ≠ none := fun h => by
        have := hS2 h
        rw [hES9] at this
        have := (gb_ne this).2
        rw [e2] at this; exact this
      have hn23 : nX_ (up_ M1 1 6 (o + 1)) 1 3 = a + 2 := p1.2.2.1.2.1
      refine t_145 fun V1 hV1 hW1 => b_145_0 (Tr_mono _) hV1 hW1 0 _ ?_
      rw [hn23]
      refine hE n' hn' b F _ _ (a + 2) _ _ 0 (c :: cm) f fm cc cd _ _ p1 p4 p5 (fun _ => rfl) (fun h => by rw [e70]; exact hSS h) ?_ (fun h Mx' hw => hQ h Mx' (XW_tr hX2 hQ2 hr1 hw))
      intro s1 Mx1 Mq1 Ms a1 c' y t1 bd1 l hP hs hB hS4 hc01 hNX
      rw [e70] at hS4 hNX
      have hERm := hP.2.2.2.1
      have hm3 : Mx1 1 3 = a1 := hERm.2.1
      refine x_145t (by decide) (by (clear hE ho hR hk hk1 hS hES hS2 hK hQ hV hW hr hES9 hT hVT hER hQE hXE hL hgo hb01 ho6 hKQ t149 hER1 hst1 hfb1 g1 hKQ1 t3 hp e71 hXn hQn hE1 hN0 hN1 hX1 hQ1 hQE1 m53 mXE n7 ht hv8 hrr hm7 hL1 hPR1 m6 m70 m71 e112 hsl e118 hcl n15 n149 n151 n150 hgo1 q90 fail ho1 hn' hi1 e2 p1 p2 p3 p4 p5 p6 hX2 hQ2 e70 e72 g2 hr1 hSS hV1 hW1 hP hs hB hS4 hc01 hNX hERm hm3; lia)) (by (clear hE ho hR hk hk1 hS hES hS2 hK hQ hV hW hr hES9 hT hVT hER hQE hXE hL hgo hb01 ho6 hKQ t149 hER1 hst1 hfb1 g1 hKQ1 t3 hp e71 hXn hQn hE1 hN0 hN1 hX1 hQ1 hQE1 m53 mXE n7 ht hv8 hrr hm7 hL1 hPR1 m6 m70 m71 e112 hsl e118 hcl n15 n149 n151 n150 hgo1 q90 fail ho1 hn' hi1 e2 p1 p2 p3 p4 p5 p6 hX2 hQ2 e70 e72 g2 hr1 hSS hV1 hW1 hP hs hB hS4 hc01 hNX hERm hm3; lia)) (ER_fl hERm) ?_
      have hXh : XF Mx (hX_ Mx1 s1 0 (a + 2)) := XF_tr hX2 (XF_tr hP.2.1 hX_XF)
      have h3h : hX_ Mx1 s1 0 (a + 2) 1 3 = a1 := by rw [hX_1 (by decide) (by decide) (by decide)]; exact hm3
      have h70h : hX_ Mx1 s1 0 (a + 2) 70 = Mx 70 := XF_70 hXh (by decide) (by decide) (by decide)
      have hih : iX_ (hX_ Mx1 s1 0 (a + 2)) := by unfold iX_; rw [h3h]; exact ER_a hERm
      have hES4 : ES (Mx 70) 6 o a = tS (Mx 70) 293 a1 := by rw [hES9]; exact gb_eq h12b (by rw [e2]; exact hS4)
      refine x_121 hih (by decide) (by decide) (fun hkk h12c => ?_) (fun hkk => ?_) (fun hkk h12c => ?_)
      · rw [h3h, h70h] at hkk
        rw [h3h] at h12c
        replace hkk : Mx 70 a1 = 293 := hkk
        have e6 : nX_ (hX_ Mx1 s1 0 (a + 2)) 1 6 = o + 1 := by rw [nX_1 (by decide), hX_1 (by decide) (by decide) (by decide)]; exact hERm.2.2.2.1
        have ew : w32 (nX_ (hX_ Mx1 s1 0 (a + 2)) 1 6 - 1) = o := by rw [e6, w32_id (by (clear hE hR hk hk1 hS hES hS2 hK hQ h12 hV hW hr hES9 hT hVT hER hQE hXE hL ha hgo hb01 hKQ t149 hER1 hst1 hfb1 g1 hKQ1 t3 hp e71 hXn hQn hE1 hN0 hN1 hX1 hQ1 hQE1 m53 mXE n7 ht hv8 hrr hm7 hL1 hPR1 m3 m70 m71 e112 hsl e118 hcl n12 n149 n151 n150 hgo1 q90 fail hi1 e13 h12b e2 p1 p2 p3 p4 p5 p6 hX2 hQ2 e70 e72 g2 hr1 hSS hn23 hV1 hW1 hP hs hB hS4 hc01 hNX hERm hm3 hXh h3h h70h hih hES4 h12c hkk; lia)) (by (clear hE hR hk hk1 hS hES hS2 hK hQ h12 hV hW hr hES9 hT hVT hER hQE hXE hL ha hgo hb01 hKQ t149 hER1 hst1 hfb1 g1 hKQ1 t3 hp e71 hXn hQn hE1 hN0 hN1 hX1 hQ1 hQE1 m53 mXE n7 ht hv8 hrr hm7 hL1 hPR1 m3 m70 m71 e112 hsl e118 hcl n12 n149 n151 n150 hgo1 q90 fail hi1 e13 h12b e2 p1 p2 p3 p4 p5 p6 hX2 hQ2 e70 e72 g2 hr1 hSS hn23 hV1 hW1 hP hs hB hS4 hc01 hNX hERm hm3 hXh h3h h70h hih hES4 h12c hkk; lia))]; (clear hE ho hR hk hk1 hS hES hS2 hK hQ h12 hV hW hr hES9 hT hVT hER hQE hXE hL ha hgo hb01 ho6 hKQ t149 hER1 hst1 hfb1 g1 hKQ1 t3 hp e71 hXn hQn hE1 hN0 hN1 hX1 hQ1 hQE1 m53 mXE n7 ht hv8 hrr hm7 hL1 hPR1 m3 m6 m70 m71 e112 hsl e118 hcl n12 n15 n149 n151 n150 hgo1 q90 fail ho1 hn' hi1 e13 h12b e2 p1 p2 p3 p4 p5 p6 hX2 hQ2 e70 e72 g2 hr1 hSS hn23 hV1 hW1 hP hs hB hS4 hc01 hNX hERm hm3 hXh h3h h70h hih hES4 h12c hkk e6; lia)
        rw [ew]
        generalize hbdF : (if kn_ Mq r 1 = 0 ∧ bd1 = 0 ∧ t1 = 1 then (0 : Int) else 1) = bdF
        have hbdF01 : bdF = 0 ∨ bdF = 1 := by rw [← hbdF]; split; exact .inl rfl; exact .inr rfl
        have good : bdF = 0 → kn_ Mq r 1 = 0 := fun h => by rw [← hbdF] at h; split at h; rename_i h9; exact h9.1; omega
        have goodr : bdF = 0 → 0 ≤ r ∧ r < Mx 124 (Mx 1 18) := fun h => by
          have := good h
          rcases hrr with h9 | h9
          · rw [kn_1, if_pos h9] at this; omega
          · exact h9
        rw [hn'] at hK
        -- Q's way
        have hQway : ∀ M', Ex9 dq (qI_ Ms o (t1, Mx 71 (a + 2), bd1) (vq_ Mq r) (ts9_ Mq r) (Mx 71 a) bdF) M' → Rq dq 0 Mq 1 M' := by
          intro M' hex
          refine Rq_close (w := 2) (t := a) (.inr rfl) p1 hr1 hP hB h12c (by rw [if_neg (by decide), e70]; exact hkk) ho6.1 (fun h => absurd h (by decide)) (fun _ Kv Qt hk9 V2 hV2 hW2 => ?_)
          rw [e72]
          have eaM : (if bd1 = 0 then aM_ (cl5_ Ms (o + 1)) (t1, Mx 71 (a + 2), bd1) 1 else cl5_ Ms (o + 1)) = aM_ (cl5_ Ms (o + 1)) (t1, Mx 71 (a + 2), bd1) 1 := by
            split
            · rfl
            · rename_i h9; unfold aM_; rw [if_neg (fun h8 => h9 h8.1)]
          rw [eaM]
          have hQb : QF Mq (aM_ (cl5_ Ms (o + 1)) (t1, Mx 71 (a + 2), bd1) 1) := QF_tr hQ2 (QF_tr hP.2.2.1 (QF_tr cl5_QF aM_QF))
          have b151 : aM_ (cl5_ Ms (o + 1)) (t1, Mx 71 (a + 2), bd1) 1 151 = Mq 151 := QF_r hQb (by decide) (by decide)
          have b61 : aM_ (cl5_ Ms (o + 1)) (t1, Mx 71 (a + 2), bd1) 1 6 61 = Mq 6 61 := QF_61 hQb
          refine b_285_143 (Tr_mono _) hV2 hW2 _ _ _ _ _ ?_
          refine ⟨by (clear hE ho hR hk hk1 hS hES hS2 hQ hV hW hr hES9 hT hVT hER hQE hXE hL hgo hb01 ho6 hKQ t149 hER1 hst1 hfb1 g1 hKQ1 t3 hp e71 hXn hQn hE1 hN0 hN1 hX1 hQ1 hQE1 m53 mXE n7 ht hv8 hrr hm7 hL1 hPR1 m6 m70 m71 e112 hsl e118 hcl n15 n149 n151 n150 hgo1 q90 fail ho1 hK hn' hi1 e2 p1 p2 p3 p4 p5 p6 hX2 hQ2 e70 e72 g2 hr1 hSS hV1 hW1 hP hs hB hS4 hc01 hNX hERm hm3 hXh h3h h70h hih hES4 h12c hkk e6 ew hbdF hbdF01 good goodr hex hk9 hV2 hW2 eaM hQb b151 b61; lia), q_276R (VT_c XF_rf hQb hVT) ?_⟩
          rw [vrr_c hQb, b151, hr, b61]
          have evq : (if r = -1 then -1 else 8 * Mq 6 61 + r) = vq_ Mq r := rfl
          rw [evq]
          have hQEb : QE (aM_ (cl5_ Ms (o + 1)) (t1, Mx 71 (a + 2), bd1) 1) sg ws (c :: cm) f (l ++ fm) := aM_QE (cl5_QE hP.2.2.2.2.1)
          have hll := hP.2.2.2.2.2.2.1
          have haa := (ER_a hERm).2
          have hff := hL.2.2.2.2.2.2.2.2
          have hf0 := hL.2.2.2.2.2.2.2.1
          have e104 : aM_ (cl5_ Ms (o + 1)) (t1, Mx 71 (a + 2), bd1) 1 6 104 = f + (l ++ fm).length := hQEb.2.2.2.2.2.2.1
          have hlen : ((l ++ fm).length : Int) = l.length + fm.length := by simp only [List.length_append]; push_cast; rfl
          refine q_277 (by rw [e104]; (clear hE ho hR hk hk1 hS hES hS2 hQ h12 hV hW hr hES9 hT hVT hER hQE hXE hL ha hgo hb01 ho6 hKQ t149 hER1 hst1 hfb1 g1 hKQ1 t3 hp e71 hXn hQn hE1 hN0 hN1 hX1 hQ1 hQE1 m53 mXE n7 ht hv8 hrr hm7 hL1 hPR1 m3 m6 m70 m71 e112 hsl e118 hcl n12 n15 n149 n151 n150 hgo1 q90 fail ho1 hK hn' hi1 e13 h12b e2 p1 p2 p3 p4 p5 p6 hX2 hQ2 e70 e72 g2 hr1 hSS hn23 hV1 hW1 hP hs hB hS4 hc01 hNX hERm hm3 hXh h3h h70h hih hES4 h12c hkk e6 ew hbdF hbdF01 good goodr hex hk9 hV2 hW2 eaM hQb b151 b61 evq hQEb hll haa hff hlen; lia)) (by rw [e104]; (clear hE ho hR hk hk1 hS hES hS2 hQ h12 hV hW hr hES9 hT hVT hER hQE hXE hL ha hgo hb01 ho6 hKQ t149 hER1 hst1 hfb1 g1 hKQ1 t3 hp e71 hXn hQn hE1 hN0 hN1 hX1 hQ1 hQE1 m53 mXE n7 ht hv8 hrr hm7 hL1 hPR1 m6 m70 m71 e112 hsl e118 hcl n15 n149 n151 n150 hgo1 q90 fail ho1 hK hn' hi1 h12b e2 p1 p2 p3 p4 p5 p6 hX2 hQ2 e70 e72 g2 hr1 hSS hV1 hW1 hP hs hB hS4 hc01 hNX hERm hm3 hXh h70h hih hES4 hkk e6 ew hbdF hbdF01 good goodr hex hk9 hV2 hW2 eaM hQb b151 b61 evq hQEb haa hf0; lia)) ?_
          have hQp : QF Mq (pu_ (aM_ (cl5_ Ms (o + 1)) (t1, Mx 71 (a + 2), bd1) 1) 12 (vq_ Mq r)) := QF_tr hQb pu_QF
          have b182 : pu_ (aM_ (cl5_ Ms (o + 1)) (t1, Mx 71 (a + 2), bd1) 1) 12 (vq_ Mq r) 182 = Mq 182 := QF_r hQp (by decide) (by decide)
          have b183 : pu_ (aM_ (cl5_ Ms (o + 1)) (t1, Mx 71 (a + 2), bd1) 1) 12 (vq_ Mq r) 183 = Mq 183 := QF_r hQp (by decide) (by decide)
          have b150 : pu_ (aM_ (cl5_ Ms (o + 1)) (t1, Mx 71 (a + 2), bd1) 1) 12 (vq_ Mq r) 150 a = Mx 71 a := pl_at hT hQp hER.1
          have e116 : pu_ (aM_ (cl5_ Ms (o + 1)) (t1, Mx 71 (a + 2), bd1) 1) 12 (vq_ Mq r) 6 116 = ws.length := by rw [pu_6 (by decide)]; exact hQEb.2.2.1
          have hwl := hL.2.2.2.2.2.2.1
          have fin : ∀ t bb : Int, t = ts9_ Mq r → bb = bdF → Tr_ wd0 pg0 (dq + 9) 278 [.inr (.inr 6), .inl t, .inl (Mx 71 a), .inl bb] (pu_ (aM_ (cl5_ Ms (o + 1)) (t1, Mx 71 (a + 2), bd1) 1) 12 (vq_ Mq r)) (rv_ fun M8 => rv_ Kv [] M8) Qt := by
            intro t bb h1 h2
            rw [h1, h2]
            exact q_278 (by rw [e116]; (clear hE ho hR hk hk1 hS hES hS2 hQ h12 hV hW hr hES9 hT hVT hER hQE hXE hL ha hgo hb01 ho6 hKQ t149 hER1 hst1 hfb1 g1 hKQ1 t3 hp e71 hXn hQn hE1 hN0 hN1 hX1 hQ1 hQE1 m53 mXE n7 ht hv8 hrr hm7 hL1 hPR1 m3 m6 m70 m71 e112 hsl e118 hcl n12 n15 n149 n151 n150 hgo1 q90 fail ho1 hK hn' hi1 e13 h12b e2 p1 p2 p3 p4 p5 p6 hX2 hQ2 e70 e72 g2 hr1 hSS hn23 hV1 hW1 hP hs hB hS4 hc01 hNX hERm hm3 hXh h3h h70h hih hES4 h12c hkk e6 ew hbdF hbdF01 good goodr hex hk9 hV2 hW2 eaM hQb b151 b61 evq hQEb hll haa hff hf0 e104 hlen hQp b182 b183 b150 e116 hwl h1 h2; lia)) (by rw [e116]; (clear hE ho hR hk hk1 hS hES hS2 hQ h12 hV hW hr hES9 hT hVT hER hQE hXE hL ha hgo hb01 ho6 hKQ t149 hER1 hst1 hfb1 g1 hKQ1 t3 hp e71 hXn hQn hE1 hN0 hN1 hX1 hQ1 hQE1 m53 mXE n7 ht hv8 hrr hm7 hL1 hPR1 m6 m70 m71 e112 hsl e118 hcl n15 n149 n151 n150 hgo1 q90 fail ho1 hK hn' hi1 h12b e2 p1 p2 p3 p4 p5 p6 hX2 hQ2 e70 e72 g2 hr1 hSS hV1 hW1 hP hs hB hS4 hc01 hNX hERm hm3 hXh h70h hih hES4 hkk e6 ew hbdF hbdF01 good goodr hex hk9 hV2 hW2 eaM hQb b151 b61 evq hQEb haa hQp b182 b183 b150 e116 h1 h2; lia)) hbdF01 (Ex9_l hex (by (clear hE ho hR hk hk1 hS hES hS2 hQ h12 hV hW hr hES9 hT hVT hER hQE hXE hL ha hgo hb01 ho6 hKQ t149 hER1 hst1 hfb1 g1 hKQ1 t3 hp e71 hXn hQn hE1 hN0 hN1 hX1 hQ1 hQE1 m53 mXE n7 ht hv8 hrr hm7 hL1 hPR1 m3 m6 m70 m71 e112 hsl e118 hcl n12 n15 n149 n151 n150 hgo1 q90 fail ho1 hK hn' hi1 e13 h12b e2 p1 p2 p3 p4 p5 p6 hX2 hQ2 e70 e72 g2 hr1 hSS hn23 hV1 hW1 hP hs hB hS4 hc01 hNX hERm hm3 hXh h3h h70h hih hES4 h12c hkk e6 ew hbdF hbdF01 good goodr hex hk9 hV2 hW2 eaM hQb b151 b61 evq hQEb hll haa hff hf0 e104 hlen hQp b182 b183 b150 e116 hwl h1 h2; lia)) (rv_i hk9))
          rw [b182, b183, b150]
          have hx4 := ab_x (t := t1) (p := Mx 71 (a + 2)) (bd := bd1)
          generalize hbad : (if bd1 = 0 then ab_ (t1, Mx 71 (a + 2), bd1) 1 else 1) = bad at hx4 ⊢
          rcases hrr with h | h
          · have ev : vq_ Mq r = -1 := by unfold vq_; rw [if_pos h]
            have et : (0 : Int) = ts9_ Mq r := by unfold ts9_; rw [if_pos h]
            have hk4 : kn_ Mq r 1 = 4 := by rw [kn_1, if_pos h]
            have eb : (1 : Int) = bdF := by rw [← hbdF, if_neg (fun h9 => by rw [hk4] at h9; (clear hE ho hR hk hk1 hS hES hS2 hQ h12 hV hW hr hES9 hT hVT hER hQE hXE hL ha hgo hb01 ho6 hKQ t149 hER1 hst1 hfb1 g1 hKQ1 t3 hp e71 hXn hQn hE1 hN0 hN1 hX1 hQ1 hQE1 m53 mXE n7 ht hv8 hm7 hL1 hPR1 m3 m6 m70 m71 e112 hsl e118 hcl n12 n15 n149 n151 n150 hgo1 q90 fail ho1 hK hn' hi1 e13 h12b e2 p1 p2 p3 p4 p5 p6 hX2 hQ2 e70 e72 g2 hr1 hSS hn23 hV1 hW1 hP hs hB hS4 hc01 hNX hERm hm3 hXh h3h h70h hih hES4 h12c hkk e6 ew hbdF hbdF01 good goodr hex hk9 hV2 hW2 eaM hQb b151 b61 evq hQEb hll haa hff hf0 e104 hlen hQp b182 b183 b150 e116 hwl fin hbad hx4 h ev et hk4; lia))]
            rw [ev] at fin ⊢
            rw [if_pos (show (-1 : Int) < 0 by decide)]
            refine ⟨by (clear hE ho hR hk hk1 hS hES hS2 hQ hV hW hr hES9 hT hVT hER hQE hXE hL hgo hb01 ho6 hKQ t149 hER1 hst1 hfb1 g1 hKQ1 t3 hp e71 hXn hQn hE1 hN0 hN1 hX1 hQ1 hQE1 m53 mXE n7 ht hv8 hm7 hL1 hPR1 m6 m70 m71 e112 hsl e118 hcl n15 n149 n151 n150 hgo1 q90 fail ho1 hK hn' hi1 e2 p1 p2 p3 p4 p5 p6 hX2 hQ2 e70 e72 g2 hr1 hSS hV1 hW1 hP hs hB hS4 hc01 hNX hERm hm3 hXh h3h h70h hih hES4 h12c hkk e6 ew hbdF hbdF01 good goodr hex hk9 hV2 hW2 eaM hQb b151 b61 evq hQEb hll haa hff hf0 e104 hlen hQp b182 b183 b150 e116 hwl fin hbad hx4 h ev et hk4 eb; lia), ?_⟩
            by_cases c1 : bad = 0
            · rw [if_pos c1, if_pos (by decide)]; exact fin 0 1 et eb
            · rw [if_neg c1]; exact fin 0 1 et eb
          · have hva := vt_at hVT h.1 h.2
            have hne : ¬ r = -1 := by (clear hE ho hR hk hk1 hS hES hS2 hQ h12 hV hW hr hES9 hT hVT hER hQE hXE hL ha hgo hb01 ho6 hKQ t149 hER1 hst1 hfb1 g1 hKQ1 t3 hp e71 hXn hQn hE1 hN0 hN1 hX1 hQ1 hQE1 m53 mXE n7 ht hv8 hm7 hL1 hPR1 m3 m6 m70 m71 e112 hsl e118 hcl n12 n15 n149 n151 n150 hgo1 q90 fail ho1 hK hn' hi1 e13 h12b e2 p1 p2 p3 p4 p5 p6 hX2 hQ2 e70 e72 g2 hr1 hSS hn23 hV1 hW1 hP hs hB hS4 hc01 hNX hERm hm3 hXh h3h h70h hih hES4 h12c hkk e6 ew hbdF hbdF01 good goodr hex hk9 hV2 hW2 eaM hQb b151 b61 evq hQEb hll haa hff hf0 e104 hlen hQp b182 b183 b150 e116 hwl fin hbad hx4 hva; omega)
            have ev : vq_ Mq r = 8 * Mq 6 61 + r := by unfold vq_; rw [if_neg hne]
            have et : Mq 182 (8 * Mq 6 61 + r) = ts9_ Mq r := by unfold ts9_; rw [if_neg hne]
            have hb61 : 0 ≤ 8 * Mq 6 61 + r ∧ 8 * Mq 6 61 + r < 48 := by rw [ht]; exact ⟨hva.2.2.2.2.2.2.1, hva.2.2.2.2.2.2.2⟩
            have hs183 := hva.2.2.2.2.2.1
            rw [ev, if_neg (by (clear hE ho hR hk hk1 hS hES hS2 hQ h12 hV hW hr hES9 hT hVT hER hQE hXE hL ha hgo hb01 ho6 hKQ t149 hER1 hst1 hfb1 g1 hKQ1 t3 hp e71 hXn hQn hE1 hN0 hN1 hX1 hQ1 hQE1 m53 mXE n7 hv8 hm7 hL1 hPR1 m3 m6 m70 m71 e112 hsl e118 hcl n12 n15 n149 n151 n150 hgo1 q90 fail ho1 hK hn' hi1 e13 h12b e2 p1 p2 p3 p4 p5 p6 hX2 hQ2 e70 e72 g2 hr1 hSS hn23 hV1 hW1 hP hs hB hS4 hc01 hNX hERm hm3 hXh h3h h70h hih hES4 h12c hkk e6 ew hbdF hbdF01 good goodr hex hk9 hV2 hW2 eaM hQb b151 evq hQEb hll haa hff hf0 e104 hlen hQp b182 b183 b150 e116 hwl fin hbad hx4 h hne et hb61 hs183; lia))]
            rw [ev] at fin
            refine ⟨hb61, by (clear hE ho hR hk hk1 hS hES hS2 hQ hV hW hr hES9 hT hVT hER hQE hXE hL hgo hb01 ho6 hKQ t149 hER1 hst1 hfb1 g1 hKQ1 t3 hp e71 hXn hQn hE1 hN0 hN1 hX1 hQ1 hQE1 m53 mXE n7 ht hv8 hm7 hL1 hPR1 m6 m70 m71 e112 hsl e118 hcl n15 n149 n151 n150 hgo1 q90 fail ho1 hK hn' hi1 e2 p1 p2 p3 p4 p5 p6 hX2 hQ2 e70 e72 g2 hr1 hSS hV1 hW1 hP hs hB hS4 hc01 hNX hERm hm3 hXh h3h h70h hih hES4 h12c hkk e6 ew hbdF hbdF01 good goodr hex hk9 hV2 hW2 eaM hQb b151 b61 evq hQEb hll haa hff hf0 e104 hlen hQp b182 b183 b150 e116 hwl fin hbad hx4 h hva hne ev et hb61 hs183; lia), ?_⟩
            by_cases c1 : bad = 0
            · rw [if_pos c1, if_neg (by (clear hE ho hR hk hk1 hS hES hS2 hQ h12 hV hW hr hES9 hT hVT hER hQE hXE hL ha hgo hb01 ho6 hKQ t149 hER1 hst1 hfb1 g1 hKQ1 t3 hp e71 hXn hQn hE1 hN0 hN1 hX1 hQ1 hQE1 m53 mXE n7 hv8 hm7 hL1 hPR1 m3 m6 m70 m71 e112 hsl e118 hcl n12 n15 n149 n151 n150 hgo1 q90 fail ho1 hK hn' hi1 e13 h12b e2 p1 p2 p3 p4 p5 p6 hX2 hQ2 e70 e72 g2 hr1 hSS hn23 hV1 hW1 hP hs hB hS4 hc01 hNX hERm hm3 hXh h3h h70h hih hES4 h12c hkk e6 ew hbdF hbdF01 good goodr hex hk9 hV2 hW2 eaM hQb b151 evq hQEb hll haa hff hf0 e104 hlen hQp b182 b183 b150 e116 hwl fin hbad hx4 h hne et hb61 hs183 c1; lia))]
              rw [if_pos c1] at hx4
              refine ⟨hb61, ?_⟩
              have hx5 : bd1 = 0 ∧ t1 = 1 := by
                by_cases h9 : bd1 = 0 ∧ t1 = 1
                · exact h9
                · rw [if_neg h9] at hx4; omega
              by_cases c2 : Mq 183 (8 * Mq 6 61 + r) = 0
              · rw [if_pos c2]
                have hk5 : kn_ Mq r 1 = 5 := by rw [kn_1, if_neg hne, if_pos (by (clear hE ho hR hk hk1 hS hES hS2 hQ h12 hV hW hr hES9 hT hVT hER hQE hXE hL ha hgo hb01 ho6 hKQ t149 hER1 hst1 hfb1 g1 hKQ1 t3 hp e71 hXn hQn hE1 hN0 hN1 hX1 hQ1 hQE1 m53 mXE n7 ht hv8 hm7 hL1 hPR1 m3 m6 m70 m71 e112 hsl e118 hcl n12 n15 n149 n151 n150 hgo1 q90 fail ho1 hK hn' hi1 e13 h12b e2 p1 p2 p3 p4 p5 p6 hX2 hQ2 e70 e72 g2 hr1 hSS hn23 hV1 hW1 hP hs hB hS4 hc01 hNX hERm hm3 hXh h3h h70h hih hES4 h12c hkk e6 ew hbdF hbdF01 good goodr hex hk9 hV2 hW2 eaM hQb b151 b61 evq hQEb hll haa hff hf0 e104 hlen hQp b182 b183 b150 e116 hwl fin hbad hx4 h hva hne ev et hb61 hs183 c1 hx5; omega))]
                exact fin _ 1 et (by rw [← hbdF, if_neg (fun h9 => by rw [hk5] at h9; omega)])
              · rw [if_neg c2]
                have hk0 : kn_ Mq r 1 = 0 := by rw [kn_1, if_neg hne, if_neg (by (clear hE ho hR hk hk1 hS hES hS2 hQ h12 hV hW hr hES9 hT hVT hER hQE hXE hL ha hgo hb01 ho6 hKQ t149 hER1 hst1 hfb1 g1 hKQ1 t3 hp e71 hXn hQn hE1 hN0 hN1 hX1 hQ1 hQE1 m53 mXE n7 ht hv8 hm7 hL1 hPR1 m3 m6 m70 m71 e112 hsl e118 hcl n12 n15 n149 n151 n150 hgo1 q90 fail ho1 hK hn' hi1 e13 h12b e2 p1 p2 p3 p4 p5 p6 hX2 hQ2 e70 e72 g2 hr1 hSS hn23 hV1 hW1 hP hs hB hS4 hc01 hNX hERm hm3 hXh h3h h70h hih hES4 h12c hkk e6 ew hbdF hbdF01 good goodr hex hk9 hV2 hW2 eaM hQb b151 b61 evq hQEb hll haa hff hf0 e104 hlen hQp b182 b183 b150 e116 hwl fin hbad hx4 h hne ev et hb61 hs183 c1 hx5; omega))]
                exact fin _ 0 et (by rw [← hbdF, if_pos ⟨hk0, hx5⟩])
            · rw [if_neg c1]
              rw [if_neg c1] at hx4
              exact fin _ 1 et (by
                rw [← hbdF, if_neg]
                intro h9
                rw [if_pos h9.2] at hx4; omega)
        -- X's way
        have hPP : ∀ (w1 w2 s : Int), _ → _ → _ → _ → _ := fun w1 w2 s h1 h2 h3 h4 => EP_idx (w1 := w1) (w2 := w2) (s := s) (bdF := bdF) hR ⟨ho6.1, ho1⟩ hrr hX1 hQ1 p2 p3 (by rw [nX_1 (by decide), up_off (by decide)]) p6 hm7 g2 hP hs h12c hkk hbdF.symm h1 h2 h3 h4
        have nmem : ∀ q : Nat, q ≠ 1 → q ≠ 5 → q ≠ 142 → up_ (nX_ (hX_ Mx1 s1 0 (a + 2))) 1 6 o q = Mx q := by
          intro q h1 h2 h3
          exact XF_70 (XF_tr hXh (XF_tr nX_XF oX_XF)) h1 h2 h3
        have nm2 : up_ (nX_ (hX_ Mx1 s1 0 (a + 2))) 1 6 o 1 2 = 5 := by
          have := (XF_tr hXh (XF_tr nX_XF (oX_XF (v := o)))).2.1 2 (by decide) (by decide) (by decide) (by decide) (by decide)
          rw [this]; exact hVT.1
        have n53 : up_ (nX_ (hX_ Mx1 s1 0 (a + 2))) 1 6 o 5 3 = Mx1 5 3 := by rw [up_ne (by decide), nX_ne (by decide), hX_r (by decide)]
        have hst := ER_st2 hERm
        have hst3 : Mx1 5 3 < 11997 := by
          have h1 := hERm.2.2.2.2.2.2.2.2.2.2.2.2.2.2
          have h2 := hERm.1.2.1
          (clear hE ho hR hk hk1 hS hES hS2 hQ h12 hV hW hr hES9 hT hVT hER hQE hXE hL ha hgo hb01 ho6 hKQ t149 hER1 hst1 hfb1 g1 hKQ1 t3 hp e71 hXn hQn hE1 hN0 hN1 hX1 hQ1 hQE1 m53 mXE n7 ht hv8 hrr hm7 hL1 hPR1 m3 m6 m70 m71 e112 hsl e118 hcl n12 n15 n149 n151 n150 hgo1 q90 fail ho1 hK hn' hi1 e13 h12b e2 p1 p2 p3 p4 p5 p6 hX2 hQ2 e70 e72 g2 hr1 hSS hn23 hV1 hW1 hP hs hB hS4 hc01 hNX hERm hm3 hXh h70h hih hES4 hkk e6 ew hbdF hbdF01 good goodr hQway hPP nmem nm2 n53 h2; omega)
        generalize hMn : up_ (nX_ (hX_ Mx1 s1 0 (a + 2))) 1 6 o = Mn at nmem nm2 n53 ⊢
        have pm : ∀ (M : mm_) (v : Int), M 5 3 ≤ pX_ M v 5 3 ∧ pX_ M v 5 3 ≤ M 5 3 + 1 := by
          intro M v; unfold pX_; split
          · (clear hE ho hR hk hk1 hS hES hS2 hQ h12 hV hW hr hES9 hT hVT hER hQE hXE hL ha hgo hb01 ho6 hKQ t149 hER1 hst1 hfb1 g1 hKQ1 t3 hp e71 hXn hQn hE1 hN0 hN1 hX1 hQ1 hQE1 m53 mXE n7 ht hv8 hrr hm7 hL1 hPR1 m3 m6 m70 m71 e112 hsl e118 hcl n12 n15 n149 n151 n150 hgo1 q90 fail ho1 hK hn' hi1 e13 h12b e2 p1 p2 p3 p4 p5 p6 hX2 hQ2 e70 e72 g2 hr1 hSS hn23 hV1 hW1 hP hs hB hS4 hc01 hNX hERm hm3 hXh h3h h70h hih hES4 h12c hkk e6 ew hbdF hbdF01 good goodr hQway hPP hst hst3 hMn nmem nm2 n53; lia)
          · rw [up_at]; (clear hE ho hR hk hk1 hS hES hS2 hQ h12 hV hW hr hES9 hT hVT hER hQE hXE hL ha hgo hb01 ho6 hKQ t149 hER1 hst1 hfb1 g1 hKQ1 t3 hp e71 hXn hQn hE1 hN0 hN1 hX1 hQ1 hQE1 m53 mXE n7 ht hv8 hrr hm7 hL1 hPR1 m3 m6 m70 m71 e112 hsl e118 hcl n12 n15 n149 n151 n150 hgo1 q90 fail ho1 hK hn' hi1 e13 h12b e2 p1 p2 p3 p4 p5 p6 hX2 hQ2 e70 e72 g2 hr1 hSS hn23 hV1 hW1 hP hs hB hS4 hc01 hNX hERm hm3 hXh h3h h70h hih hES4 h12c hkk e6 ew hbdF hbdF01 good goodr hQway hPP hst hst3 hMn nmem nm2 n53; lia)
        have pa := pm Mn 9
        have at221 : ∀ w1 w2 : Int, (b = 1 → bdF = 0 → w1 = Mq 184 (vq_ Mq r)) → (b = 1 → bdF = 0 → w2 = Mq 183 (vq_ Mq r)) → V 221 [rr 1, ii (Mx 1 7), ii a, ii r, ii (8 * Mx 1 18 + r), ii (ar_ Mq r), ii 1] [] (pX_ (pX_ (pX_ Mn 9) w1) w2) := by
          intro w1 w2 hw1 hw2
          have exI : pX_ (pX_ (pX_ Mn 9) w1) w2 = xI_ Mx1 s1 o (a + 2) w1 w2 := by unfold xI_; rw [hMn]
          refine b_155_221 (Tr_mono _) hV hW _ _ _ _ _ _ _ ?_
          have fin : ∀ s : Int, (b = 1 → bdF = 0 → s = ts9_ Mq r - 1) → (b = 1 → bdF = 1 → s = -1) → K s (pX_ (pX_ (pX_ Mn 9) w1) w2) := by
            intro s h3 h4
            rw [exI]
            have hp9 := hPP w1 w2 s hw1 hw2 h3 h4
            refine hK s _ _ (a1 + 1) _ _ bdF _ hp9.1 (fun hb h => h4 hb h) hQway ?_
            rw [hES4]; unfold tS gS; rw [if_pos hkk, if_pos h12c]
          have hiff : b = 1 → (bdF = 0 ↔ pX_ (pX_ (pX_ Mn 9) w1) w2 1 7 ≤ Mx 1 7) := by
            intro hb
            rw [exI]
            rcases hbdF01 with h | h
            · exact (hPP w1 w2 (ts9_ Mq r - 1) hw1 hw2 (fun _ _ => rfl) (fun _ h9 => by (clear hE ho hR hk hk1 hS hES hS2 hQ h12 hV hW hr hES9 hT hVT hER hQE hXE hL ha hgo hb01 ho6 hKQ t149 hER1 hst1 hfb1 g1 hKQ1 t3 hp e71 hXn hQn hE1 hN0 hN1 hX1 hQ1 hQE1 m53 mXE n7 ht hv8 hrr hm7 hL1 hPR1 m3 m6 m70 m71 e112 hsl e118 hcl n12 n15 n149 n151 n150 hgo1 q90 fail ho1 hK hn' hi1 e13 h12b e2 p1 p2 p3 p4 p5 p6 hX2 hQ2 e70 e72 g2 hr1 hSS hn23 hV1 hW1 hP hs hB hS4 hc01 hNX hERm hm3 hXh h3h h70h hih hES4 h12c hkk e6 ew hbdF good goodr hQway hPP hst hst3 hMn nmem nm2 n53 pm pa hw1 hw2 exI fin hb; lia))).2 hb
            · exact (hPP w1 w2 (-1) hw1 hw2 (fun _ h9 => by (clear hE ho hR hk hk1 hS hES hS2 hQ h12 hV hW hr hES9 hT hVT hER hQE hXE hL ha hgo hb01 ho6 hKQ t149 hER1 hst1 hfb1 g1 hKQ1 t3 hp e71 hXn hQn hE1 hN0 hN1 hX1 hQ1 hQE1 m53 mXE n7 ht hv8 hrr hm7 hL1 hPR1 m3 m6 m70 m71 e112 hsl e118 hcl n12 n15 n149 n151 n150 hgo1 q90 fail ho1 hK hn' hi1 e13 h12b e2 p1 p2 p3 p4 p5 p6 hX2 hQ2 e70 e72 g2 hr1 hSS hn23 hV1 hW1 hP hs hB hS4 hc01 hNX hERm hm3 hXh h3h h70h hih hES4 h12c hkk e6 ew hbdF good goodr hQway hPP hst hst3 hMn nmem nm2 n53 pm pa hw1 hw2 exI fin hb; lia)) (fun _ _ => rfl)).2 hb
          by_cases c1 : r = -1
          · rw [if_pos c1]
            refine ri_i (fin (-1) (fun _ h => ?_) (fun _ _ => rfl))
            have := goodr h; (clear hE ho hR hk hk1 hS hES hS2 hQ h12 hV hW hr hES9 hT hVT hER hQE hXE hL ha hgo hb01 ho6 hKQ t149 hER1 hst1 hfb1 g1 hKQ1 t3 hp e71 hXn hQn hE1 hN0 hN1 hX1 hQ1 hQE1 m53 mXE n7 ht hv8 hrr hm7 hL1 hPR1 m3 m6 m70 m71 e112 hsl e118 hcl n12 n15 n149 n151 n150 hgo1 q90 fail ho1 hK hn' hi1 e13 h12b e2 p1 p2 p3 p4 p5 p6 hX2 hQ2 e70 e72 g2 hr1 hSS hn23 hV1 hW1 hP hs hB hS4 hc01 hNX hERm hm3 hXh h3h h70h hih hES4 h12c hkk e6 ew hbdF hbdF01 good goodr hQway hPP hst hst3 hMn nmem nm2 n53 pm pa hw1 hw2 exI fin hiff h; omega)
          · rw [if_neg c1]
            have h := hrr.resolve_left c1
            have hva := vt_at hVT h.1 h.2
            have e130 : pX_ (pX_ (pX_ Mn 9) w1) w2 130 = Mx 130 := by rw [pX_r (by decide) (by decide), pX_r (by decide) (by decide), pX_r (by decide) (by decide), nmem 130 (by decide) (by decide) (by decide)]
            rw [e130]
            by_cases c2 : pX_ (pX_ (pX_ Mn 9) w1) w2 1 7 ≤ Mx 1 7
            · rw [if_pos c2]
              refine ⟨by rw [pX_1, pX_1, pX_1]; exact nm2, ⟨hva.2.2.2.2.2.2.1, hva.2.2.2.2.2.2.2⟩, ri_i (fin _ (fun _ _ => ?_) (fun hb h9 => ?_))⟩
              · unfold ts9_; rw [if_neg c1]; (clear hE ho hR hk hk1 hS hES hS2 hQ h12 hV hW hr hES9 hT hVT hER hQE hXE hL ha hgo hb01 ho6 hKQ t149 hER1 hst1 hfb1 g1 hKQ1 t3 hp e71 hXn hQn hE1 hN0 hN1 hX1 hQ1 hQE1 m53 mXE n7 ht hv8 hrr hm7 hL1 hPR1 m3 m6 m70 m71 e112 hsl e118 hcl n12 n15 n149 n151 n150 hgo1 q90 fail ho1 hK hn' hi1 e13 h12b e2 p1 p2 p3 p4 p5 p6 hX2 hQ2 e70 e72 g2 hr1 hSS hn23 hV1 hW1 hP hs hB hS4 hc01 hNX hERm hm3 hXh h3h h70h hih hES4 h12c hkk e6 ew hbdF hbdF01 good goodr hQway hPP hst hst3 hMn nmem nm2 n53 pm pa hw1 hw2 exI fin hiff c1 h e130 c2; lia)
              · have := (hiff hb).mpr c2; (clear hE ho hR hk hk1 hS hES hS2 hQ h12 hV hW hr hES9 hT hVT hER hQE hXE hL ha hgo hb01 ho6 hKQ t149 hER1 hst1 hfb1 g1 hKQ1 t3 hp e71 hXn hQn hE1 hN0 hN1 hX1 hQ1 hQE1 m53 mXE n7 ht hv8 hrr hm7 hL1 hPR1 m3 m6 m70 m71 e112 hsl e118 hcl n12 n15 n149 n151 n150 hgo1 q90 fail ho1 hK hn' hi1 e13 h12b e2 p1 p2 p3 p4 p5 p6 hX2 hQ2 e70 e72 g2 hr1 hSS hn23 hV1 hW1 hP hs hB hS4 hc01 hNX hERm hm3 hXh h3h h70h hih hES4 h12c hkk e6 ew hbdF hbdF01 good goodr hQway hPP hst hst3 hMn nmem nm2 n53 pm pa hw1 hw2 exI fin hiff c1 h hva e130 c2 hb; lia)
            · rw [if_neg c2]
              refine ri_i (fin (-1) (fun hb h9 => ?_) (fun _ _ => rfl))
              exact absurd ((hiff hb).mp h9) c2
        refine x_138 nm2 (by (clear hE ho hR hk hk1 hS hES hS2 hQ h12 hV hW hr hES9 hT hVT hER hQE hXE hL ha hgo hb01 ho6 hKQ t149 hER1 hst1 hfb1 g1 hKQ1 t3 hp e71 hXn hQn hE1 hN0 hN1 hX1 hQ1 hQE1 m53 mXE n7 ht hv8 hrr hm7 hL1 hPR1 m3 m6 m70 m71 e112 hsl e118 hcl n12 n15 n149 n151 n150 hgo1 q90 fail ho1 hK hn' hi1 e13 h12b e2 p1 p2 p3 p4 p5 p6 hX2 hQ2 e70 e72 g2 hr1 hSS hn23 hV1 hW1 hP hs hB hS4 hc01 hNX hERm hm3 hXh h3h h70h hih hES4 h12c hkk e6 ew hbdF hbdF01 good goodr hQway hPP hMn nmem nm2 pm pa at221; lia)) (by (clear hE ho hR hk hk1 hS hES hS2 hQ h12 hV hW hr hES9 hT hVT hER hQE hXE hL ha hgo hb01 ho6 hKQ t149 hER1 hst1 hfb1 g1 hKQ1 t3 hp e71 hXn hQn hE1 hN0 hN1 hX1 hQ1 hQE1 m53 mXE n7 ht hv8 hrr hm7 hL1 hPR1 m3 m6 m70 m71 e112 hsl e118 hcl n12 n15 n149 n151 n150 hgo1 q90 fail ho1 hK hn' hi1 e13 h12b e2 p1 p2 p3 p4 p5 p6 hX2 hQ2 e70 e72 g2 hr1 hSS hn23 hV1 hW1 hP hs hB hS4 hc01 hNX hERm hm3 hXh h3h h70h hih hES4 h12c hkk e6 ew hbdF hbdF01 good goodr hQway hPP hMn nmem nm2 pm pa at221; omega)) ?_
        have e2a : pX_ Mn 9 1 2 = 5 := by rw [pX_1]; exact nm2
        have size : ∀ w1 : Int, (b = 1 → bdF = 0 → w1 = Mq 184 (vq_ Mq r)) → (if ar_ Mq r = 0 then Tr_ wd0 pg0 (D + 5) 138 [.inr (.inr 1), .inl 1] (pX_ (pX_ Mn 9) w1) (rv_ fun M13 => V 221 [rr 1, ii (Mx 1 7), ii a, ii r, ii (8 * Mx 1 18 + r), ii (ar_ Mq r), ii 1] [] M13) Qt else pX_ (pX_ Mn 9) w1 1 2 = 5 ∧ (0 ≤ 8 * Mx 1 18 + r ∧ 8 * Mx 1 18 + r < 48) ∧ Tr_ wd0 pg0 (D + 5) 138 [.inr (.inr 1), .inl (pX_ (pX_ Mn 9) w1 131 (8 * Mx 1 18 + r))] (pX_ (pX_ Mn 9) w1) (rv_ fun M14 => V 221 [rr 1, ii (Mx 1 7), ii a, ii r, ii (8 * Mx 1 18 + r), ii (ar_ Mq r), ii 1] [] M14) Qt) := by
          intro w1 hw1
          have pb := pm (pX_ Mn 9) w1
          have e2b : pX_ (pX_ Mn 9) w1 1 2 = 5 := by rw [pX_1, pX_1]; exact nm2
          by_cases c1 : ar_ Mq r = 0
          · rw [if_pos c1]
            refine x_138 e2b (by (clear hE ho hR hk hk1 hS hES hS2 hQ h12 hV hW hr hES9 hT hVT hER hQE hXE hL ha hgo hb01 ho6 hKQ t149 hER1 hst1 hfb1 g1 hKQ1 t3 hp e71 hXn hQn hE1 hN0 hN1 hX1 hQ1 hQE1 m53 mXE n7 ht hv8 hrr hm7 hL1 hPR1 m3 m6 m70 m71 e112 hsl e118 hcl n12 n15 n149 n151 n150 hgo1 q90 fail ho1 hK hn' hi1 e13 h12b e2 p1 p2 p3 p4 p5 p6 hX2 hQ2 e70 e72 g2 hr1 hSS hn23 hV1 hW1 hP hs hB hS4 hc01 hNX hERm hm3 hXh h3h h70h hih hES4 h12c hkk e6 ew hbdF hbdF01 good goodr hQway hPP hMn nmem nm2 pm at221 e2a hw1 e2b c1; omega)) (by (clear hE ho hR hk hk1 hS hES hS2 hQ h12 hV hW hr hES9 hT hVT hER hQE hXE hL ha hgo hb01 ho6 hKQ t149 hER1 hst1 hfb1 g1 hKQ1 t3 hp e71 hXn hQn hE1 hN0 hN1 hX1 hQ1 hQE1 m53 mXE n7 ht hv8 hrr hm7 hL1 hPR1 m3 m6 m70 m71 e112 hsl e118 hcl n12 n15 n149 n151 n150 hgo1 q90 fail ho1 hK hn' hi1 e13 h12b e2 p1 p2 p3 p4 p5 p6 hX2 hQ2 e70 e72 g2 hr1 hSS hn23 hV1 hW1 hP hs hB hS4 hc01 hNX hERm hm3 hXh h3h h70h hih hES4 h12c hkk e6 ew hbdF hbdF01 good goodr hQway hPP hMn nmem nm2 pm at221 e2a hw1 e2b c1; omega)) (at221 w1 1 hw1 (fun _ h => ?_))
            exfalso
            have h9 := good h
            have h8 := goodr h
            have hne : ¬ r = -1 := by (clear hE ho hR hk hk1 hS hES hS2 hQ h12 hV hW hr hES9 hT hVT hER hQE hXE hL ha hgo hb01 ho6 hKQ t149 hER1 hst1 hfb1 g1 hKQ1 t3 hp e71 hXn hQn hE1 hN0 hN1 hX1 hQ1 hQE1 m53 mXE n7 ht hv8 hrr hm7 hL1 hPR1 m3 m6 m70 m71 e112 hsl e118 hcl n12 n15 n149 n151 n150 hgo1 q90 fail ho1 hK hn' hi1 e13 h12b e2 p1 p2 p3 p4 p5 p6 hX2 hQ2 e70 e72 g2 hr1 hSS hn23 hV1 hW1 hP hs hB hS4 hc01 hNX hERm hm3 hXh h3h h70h hih hES4 h12c hkk e6 ew hbdF hbdF01 good goodr hQway hPP hst hst3 hMn nmem nm2 n53 pm pa at221 e2a hw1 pb e2b c1 h h9; omega)
            rw [kn_1, if_neg hne] at h9
            unfold ar_ at c1
            rw [if_neg hne] at c1
            split at h9
            · (clear hE ho hR hk hk1 hS hES hS2 hQ h12 hV hW hr hES9 hT hVT hER hQE hXE hL ha hgo hb01 ho6 hKQ t149 hER1 hst1 hfb1 g1 hKQ1 t3 hp e71 hXn hQn hE1 hN0 hN1 hX1 hQ1 hQE1 m53 mXE n7 ht hv8 hrr hm7 hL1 hPR1 m3 m6 m70 m71 e112 hsl e118 hcl n12 n15 n149 n151 n150 hgo1 q90 fail ho1 hK hn' hi1 e13 h12b e2 p1 p2 p3 p4 p5 p6 hX2 hQ2 e70 e72 g2 hr1 hSS hn23 hV1 hW1 hP hs hB hS4 hc01 hNX hERm hm3 hXh h3h h70h hih hES4 h12c hkk e6 ew hbdF hbdF01 good goodr hQway hPP hst hst3 hMn nmem nm2 n53 pm pa at221 e2a hw1 pb e2b c1 h h8 hne; lia)
            · rename_i h7; rw [if_neg h7] at c1; (clear hE ho hR hk hk1 hS hES hS2 hQ h12 hV hW hr hES9 hT hVT hER hQE hXE hL ha hgo hb01 ho6 hKQ t149 hER1 hst1 hfb1 g1 hKQ1 t3 hp e71 hXn hQn hE1 hN0 hN1 hX1 hQ1 hQE1 m53 mXE n7 ht hv8 hrr hm7 hL1 hPR1 m3 m6 m70 m71 e112 hsl e118 hcl n12 n15 n149 n151 n150 hgo1 q90 fail ho1 hK hn' hi1 e13 h12b e2 p1 p2 p3 p4 p5 p6 hX2 hQ2 e70 e72 g2 hr1 hSS hn23 hV1 hW1 hP hs hB hS4 hc01 hNX hERm hm3 hXh h3h h70h hih hES4 h12c hkk e6 ew hbdF hbdF01 good goodr hQway hPP hst hst3 hMn nmem nm2 n53 pm pa at221 e2a hw1 pb e2b h h8 hne h7 h9; lia)
          · rw [if_neg c1]
            have hne : ¬ r = -1 := fun h => c1 (by unfold ar_; rw [if_pos h])
            have h := hrr.resolve_left hne
            have hva := vt_at hVT h.1 h.2
            have e131 : pX_ (pX_ Mn 9) w1 131 = Mx 131 := by rw [pX_r (by decide) (by decide), pX_r (by decide) (by decide), nmem 131 (by decide) (by decide) (by decide)]
            rw [e131]
            refine ⟨e2b, ⟨hva.2.2.2.2.2.2.1, hva.2.2.2.2.2.2.2⟩, x_138 e2b (by omega) (by omega) (at221 w1 _ hw1 (fun _ _ => ?_))⟩
            have ev : vq_ Mq r = 8 * Mq 6 61 + r := by unfold vq_; rw [if_neg hne]
            rw [ev]; exact hva.2.1
        by_cases c1 : r = -1
        · rw [if_pos c1]
          refine x_138 e2a (by (clear hE ho hR hk hk1 hS hES hS2 hQ h12 hV hW hr hES9 hT hVT hER hQE hXE hL ha hgo hb01 ho6 hKQ t149 hER1 hst1 hfb1 g1 hKQ1 t3 hp e71 hXn hQn hE1 hN0 hN1 hX1 hQ1 hQE1 m53 mXE n7 ht hv8 hrr hm7 hL1 hPR1 m3 m6 m70 m71 e112 hsl e118 hcl n12 n15 n149 n151 n150 hgo1 q90 fail ho1 hK hn' hi1 e13 h12b e2 p1 p2 p3 p4 p5 p6 hX2 hQ2 e70 e72 g2 hr1 hSS hn23 hV1 hW1 hP hs hB hS4 hc01 hNX hERm hm3 hXh h3h h70h hih hES4 h12c hkk e6 ew hbdF hbdF01 good goodr hQway hPP hMn nmem nm2 pm at221 e2a size c1; lia)) (by (clear hE ho hR hk hk1 hS hES hS2 hQ h12 hV hW hr hES9 hT hVT hER hQE hXE hL ha hgo hb01 ho6 hKQ t149 hER1 hst1 hfb1 g1 hKQ1 t3 hp e71 hXn hQn hE1 hN0 hN1 hX1 hQ1 hQE1 m53 mXE n7 ht hv8 hrr hm7 hL1 hPR1 m3 m6 m70 m71 e112 hsl e118 hcl n12 n15 n149 n151 n150 hgo1 q90 fail ho1 hK hn' hi1 e13 h12b e2 p1 p2 p3 p4 p5 p6 hX2 hQ2 e70 e72 g2 hr1 hSS hn23 hV1 hW1 hP hs hB hS4 hc01 hNX hERm hm3 hXh h3h h70h hih hES4 h12c hkk e6 ew hbdF hbdF01 good goodr hQway hPP hMn nmem nm2 pm at221 e2a size c1; lia)) ?_
          exact size 0 (fun _ h => by have := goodr h; omega)
        · rw [if_neg c1]
          have h := hrr.resolve_left c1
          have hva := vt_at hVT h.1 h.2
          have e132 : pX_ Mn 9 132 = Mx 132 := by rw [pX_r (by decide) (by decide), nmem 132 (by decide) (by decide) (by decide)]
          rw [e132]
          refine ⟨e2a, ⟨hva.2.2.2.2.2.2.1, hva.2.2.2.2.2.2.2⟩, x_138 e2a (by omega) (by omega) ?_⟩
          refine size _ (fun _ _ => ?_)
          have ev : vq_ Mq r = 8 * Mq 6 61 + r := by unfold vq_; rw [if_neg c1]
          rw [ev]; exact hva.2.2.1
      · rw [h3h, h70h] at hkk
        replace hkk : Mx 70 a1 ≠ 293 := hkk
        rw [h3h]
        have hb : b = 0 := by
          rcases hb01 with h | h
          · exact h
          · have := hS2 h
            rw [hES4] at this
            exact absurd (by unfold tS; rw [if_neg hkk]) this
        have eh : hX_ Mx1 s1 0 (a + 2) = Mx1 := by unfold hX_; rw [if_pos (.inl (by rw [hERm.2.2.2.2.2.2.1]; exact hb))]
        rw [eh]
        exact hQ hb _ (XW_close (w := 2) (t := a) hb (.inr rfl) p1 hX2 hQ2 hr1 hP hB (by rw [e70]; exact hNX) (by rw [if_neg (by decide), e70]; exact hkk))
      · rw [h3h, h70h] at hkk
        replace hkk : Mx 70 a1 = 293 := hkk
        rw [h3h] at h12c ⊢
        have hb : b = 0 := by
          rcases hb01 with h | h
          · exact h
          · have := hS2 h
            rw [hES4] at this
            exact absurd (by unfold tS gS; rw [if_pos hkk, if_neg (by (clear hE ho hR hk hk1 hS hES hS2 hK hQ h12 hV hW hr hES9 hT hVT hER hQE hXE hL ha hgo ho6 hKQ t149 hER1 hst1 hfb1 g1 hKQ1 t3 hp e71 hXn hQn hE1 hN0 hN1 hX1 hQ1 hQE1 m53 mXE n7 ht hv8 hrr hm7 hL1 hPR1 m3 m6 m70 m71 e112 hsl e118 hcl n12 n15 n149 n151 n150 hgo1 q90 fail ho1 hn' hi1 e13 h12b e2 p1 p2 p3 p4 p5 p6 hX2 hQ2 e70 e72 g2 hr1 hSS hn23 hV1 hW1 hP hs hB hS4 hc01 hNX hERm hm3 hXh h70h hih hES4 hkk h this; lia))]) this
        have eh : hX_ Mx1 s1 0 (a + 2) = Mx1 := by unfold hX_; rw [if_pos (.inl (by rw [hERm.2.2.2.2.2.2.1]; exact hb))]
        rw [eh]
        exact hQ hb _ (XW_closer (w := 2) (t := a) hb (.inr rfl) p1 hX2 hQ2 hr1 hP hB h12c (by rw [if_neg (by decide), e70]; exact hkk))
    · rw [e13] at h12b ⊢
      have hb : b = 0 := by
        rcases hb01 with h | h
        · exact h
        · have := hS2 h
          rw [hES9] at this
          exact absurd (gb_ne this).1 (by (clear hE ho hR hk hk1 hS hES hS2 hK hQ h12 hV hW hr hES9 hT hVT hER hQE hXE hL ha hgo ho6 hKQ t149 hER1 hst1 hfb1 g1 hKQ1 t3 hp e71 hXn hQn hE1 hN0 hN1 hX1 hQ1 hQE1 m53 mXE n7 ht hv8 hrr hm7 hL1 hPR1 m6 m70 m71 e112 hsl e118 hcl n15 n149 n151 n150 hgo1 q90 fail ho1 hn' hi1 h this; lia))
      exact fail _ hb (XF_tr hX1 (XF_tr oX_XF fl_XF)) fl_4 (by rw [fl_5, up_ne (by decide), m71]) (by rw [fl_7, up_off (by decide)]) (.inr h12b)
  · rw [m6] at ho1
    rw [if_pos ho1] at hES9
    have hb : b = 0 := by
      rcases hb01 with h | h
      · exact h
      · exact absurd hES9 (hS2 h)
    rw [m3]
    exact fail _ hb (XF_tr hX1 fl_XF) fl_4 (by rw [fl_5, m71]) fl_7 (.inl ho1)
end VY
end T94_er
section T95_er
/-! first as a whole; e at every depth -/
section FI
variable {dq D D' n : Nat} {o : Int}
theorem SB_le [Inhabited gh_] {m nt : Nat} {lev : Int} {nd : Int → Int} (h : SB m nt lev nd D dq o) (hd : D ≤ D') : SB m nt lev nd D' dq o := by
  intro b F Mx Mq a sg ws c cm f fm cc cd K Qt hR h1 h2 h3 h4 h5 h6
  exact Tr_le hd (h b F Mx Mq a sg ws c cm f fm cc cd K Qt hR h1 h2 h3 h4 h5 h6)
theorem SA_le [Inhabited gh_] {m nt : Nat} (h : SA m nt D dq n o) (hd : D ≤ D') : SA m nt D' dq n o := by
  intro b F Mx Mq a sg ws c cm f fm cc cd K Qt hR h1 h2 h3
  exact Tr_le hd (h b F Mx Mq a sg ws c cm f fm cc cd K Qt hR h1 h2 h3)
theorem x_152 [Inhabited gh_] (hE : ∀ n' : Nat, n = n' + 1 → SB 146 0 1 (nE n') (D + 4) dq (o + 1)) (ho : o = 12 - (n : Int)) : SF (D + 7) dq n o := by
  intro b F Mx Mq a sg ws c cm f fm cc cd K Qt hR h245 h41 hS hK hQ
  have hER := hR.2.2.1
  have ha := ER_a hER
  have h3 : Mx 1 3 = a := hER.2.1
  have hES := ES_6 (κ := Mx 70) (o := o) (a := a) ha.1 ha.2
  have hT := hR.1
  have hb01 := hER.2.2.2.2.2.2.2.2.1
  have e70 : Mx 70 (Mx 1 3) = Mx 70 a := by rw [h3]
  have hE6 : ∀ n' : Nat, n = n' + 1 → SB 146 0 1 (nE n') (D + 2 + 4) dq (o + 1) := fun n' h => SB_le (hE n' h) (by omega)
  refine t_152 fun V hV hW => b_152_0 (Tr_mono _) hV hW Mx ?_
  refine x_120 (ER_iX hER) ?_
  rw [e70]
  -- words of one token
  have g1 : Mx 70 a = 101 ∨ 31 ≤ Mx 70 a ∧ Mx 70 a ≤ 40 ∧ Mx 70 a ≠ 39 → ES (Mx 70) 6 o a = gS a := fun h => by rw [hES, if_pos h]
  have gs : Mx 70 a = 101 ∨ 31 ≤ Mx 70 a ∧ Mx 70 a ≤ 40 ∧ Mx 70 a ≠ 39 → b = 1 → a < 1200 := by
    intro h hb
    refine Classical.byContradiction fun h9 => hS hb ?_
    rw [g1 h]; unfold gS; rw [if_neg h9]
  have conv : ∀ (m : Nat) (args : List pv_) (Dd : Nat) (M : mm_), Tr_ wd0 pg0 Dd m args M (ri_ K) Qt → Tr_ wd0 pg0 Dd m args M (ri_ fun v M => ri_ K [.inl v] M) Qt := by
    intro m args Dd M h
    exact Tr_m h (fun vs N hq => by obtain ⟨x, h1, h2⟩ := hq; exact ⟨x, h1, ri_i h2⟩) (fun _ _ q => q)
  have push : ∀ k v : Int, Mx 70 a = k → 31 ≤ k → k ≤ 33 → v = (if k = 31 then 1 else 0) → ∀ s : Int, s = wt_ k - 1 → Tr_ wd0 pg0 (D + 6) 153 [.inr (.inr 1), .inl v, .inl s] Mx (ri_ fun v M => ri_ K [.inl v] M) Qt := by
    intro k v hk h1 h2 hv s hs
    rw [hs]
    exact conv _ _ _ _ (x_wpush (n := n) (D := D + 3) hR hk h1 h2 hv (gs (.inr (by omega))) (g1 (.inr (by omega))) hK hQ)
  have says : ∀ k op : Int, Mx 70 a = k → 34 ≤ k → k ≤ 40 → k ≠ 39 → op = (if k ≤ 38 then k - 33 else 6) → ∀ s : Int, s = wt_ k - 1 → Tr_ wd0 pg0 (D + 6) 154 [.inr (.inr 1), .inl op, .inl s] Mx (ri_ fun v M => ri_ K [.inl v] M) Qt := by
    intro k op hk h1 h2 h3 hop s hs
    rw [hs]
    exact conv _ _ _ _ (x_word (n := n) (D := D + 3) hR hk h1 h2 h3 hop (gs (.inr (by omega))) (g1 (.inr (by omega))) hK hQ)
  by_cases c31 : Mx 70 a = 31
  · rw [if_pos c31]; exact push 31 1 c31 (by decide) (by decide) rfl 1 (by decide)
  rw [if_neg c31]
  by_cases c32 : Mx 70 a = 32
  · rw [if_pos c32]; exact push 32 0 c32 (by decide) (by decide) rfl 1 (by decide)
  rw [if_neg c32]
  by_cases c33 : Mx 70 a = 33
  · rw [if_pos c33]; exact push 33 0 c33 (by decide) (by decide) rfl 2 (by decide)
  rw [if_neg c33]
  by_cases c34 : Mx 70 a = 34
  · rw [if_pos c34]; exact says 34 1 c34 (by decide) (by decide) (by decide) (by decide) 2 (by decide)
  rw [if_neg c34]
  by_cases c35 : Mx 70 a = 35
  · rw [if_pos c35]; exact says 35 2 c35 (by decide) (by decide) (by decide) (by decide) 2 (by decide)
  rw [if_neg c35]
  by_cases c36 : Mx 70 a = 36
  · rw [if_pos c36]; exact says 36 3 c36 (by decide) (by decide) (by decide) (by decide) 2 (by decide)
  rw [if_neg c36]
  by_cases c37 : Mx 70 a = 37
  · rw [if_pos c37]; exact says 37 4 c37 (by decide) (by decide) (by decide) (by decide) 2 (by decide)
  rw [if_neg c37]
  by_cases c38 : Mx 70 a = 38
  · rw [if_pos c38]; exact says 38 5 c38 (by decide) (by decide) (by decide) (by decide) 0 (by decide)
  rw [if_neg c38]
  by_cases c39 : Mx 70 a = 39
  · rw [if_pos c39]
    rw [if_neg (by omega), if_pos c39] at hES
    exact x_act (n := n) (D := D + 2) hR c39 (fun h => by rw [← hES]; exact hS h) hES hK hQ
  rw [if_neg c39]
  by_cases c40 : Mx 70 a = 40
  · rw [if_pos c40]; exact says 40 6 c40 (by decide) (by decide) (by decide) (by decide) 0 (by decide)
  rw [if_neg c40]
  by_cases c100 : Mx 70 a = 100
  · rw [if_pos c100]
    rw [if_neg (by omega), if_neg c39, if_pos c100] at hES
    have hSa : b = 1 → a < 1200 := by
      intro hb
      refine Classical.byContradiction fun h9 => hS hb ?_
      rw [hES]; unfold gS; rw [if_neg h9]; rfl
    by_cases c291 : Mx 70 (a + 1) = 291
    · refine conv _ _ _ _ (x_var1 (n := n) (D := D) hE ho hR c100 c291 hSa (fun h => ?_) hS hK hQ)
      rw [hES, gb_eq2 h, if_pos c291]
    · refine conv _ _ _ _ (x_var0 (n := n) (D := D) hR c100 c291 hSa (fun h => ?_) hK hQ)
      rw [hES, gb_eq2 h, if_neg c291]
  rw [if_neg c100]
  by_cases c101 : Mx 70 a = 101
  · rw [if_pos c101]
    refine ⟨by rw [h3]; omega, conv _ _ _ _ (x_num (n := n) (D := D + 3) hR c101 (gs (.inl c101)) (g1 (.inl c101)) hK hQ)⟩
  rw [if_neg c101]
  by_cases c240 : Mx 70 a = 240
  · rw [if_pos c240]
    rw [if_neg (by omega), if_neg c39, if_neg c100, if_pos c240] at hES
    exact x_par (n := n) (D := D + 2) hE6 ho hR c240 hES hS hK hQ
  rw [if_neg c240]
  -- nothing that an e begins with; - and not were passed before
  rw [if_neg (by (clear hE ho hR h245 h41 hS hK hQ hER ha h3 hES hT hb01 e70 hE6 hV hW g1 gs conv push says; lia)), if_neg c39, if_neg c100, if_neg c240] at hES
  have hb : b = 0 := by
    rcases hb01 with h | h
    · exact h
    · exact absurd hES (hS h)
  refine x_109 (ER_iX hER) ?_
  rw [if_neg (by decide), h3]
  have hKQ := (hT a hER.1).1
  have hok := ER_ok hER hb
  have hin : in9_ Mq := by unfold in9_; rw [hER.2.2.1]; omega
  refine hQ hb _ (XW_i (v := 1) (ER_goq hER) fl_XF fun K Qt q => ?_)
  refine q_272b (d := dq + 6) (k := Mx 70 a) (a := a) hin hER.2.2.1 hok hKQ ⟨h245, h41, c240⟩ c100 c101 (by (clear hE ho hR h245 h41 hS hK hQ hER ha h3 hES hT hb01 e70 hE6 hV hW g1 gs conv push says hb hKQ hok hin q; lia)) (q _ (bf_sp hok.2 (by decide)) ?_ ?_ ?_ bf_QF)
  · unfold in9_; rw [bf_6 (by decide) (by decide)]; exact hin
  · rw [bf_13, fl_4]
  · refine ⟨?_, fl_b7 hER⟩; rw [bf_14, fl_5]; exact (hT a hER.1).2.1.symm
theorem SF_le [Inhabited gh_] (h : SF D dq n o) (hd : D ≤ D') : SF D' dq n o := by
  intro b F Mx Mq a sg ws c cm f fm cc cd K Qt hR h1 h2 h3 h4 h5
  exact Tr_le hd (h b F Mx Mq a sg ws c cm f fm cc cd K Qt hR h1 h2 h3 h4 h5)
/-- e out of un -/
theorem e_of_un [Inhabited gh_] (h : SA 151 5 (D + 3) dq n o) : SB 146 0 1 (nE n) (D + 8) dq o :=
  x_146 (x_147 (x_148 (x_149 (x_150 (SA_SB h)))))
/-- un and e, however many brackets may still be opened -/
theorem e_all [Inhabited gh_] (dq : Nat) : ∀ n : Nat, n ≤ 12 → SA 151 5 (9 * n + 8) dq n (12 - (n : Int)) ∧ SB 146 0 1 (nE n) (9 * n + 13) dq (12 - (n : Int))
  | 0, _ => by
    have h1 : SF (0 + 7) dq 0 (12 - ((0 : Nat) : Int)) := x_152 (fun n' h => absurd h (by omega)) rfl
    have h2 : SA 151 5 (3 + 5) dq 0 (12 - ((0 : Nat) : Int)) := x_un (fun n' h => absurd h (by omega)) h1 rfl
    exact ⟨h2, e_of_un (D := 5) h2⟩
  | n + 1, hn => by
    have ih := e_all dq n (by omega)
    have e1 : (12 : Int) - ((n + 1 : Nat) : Int) + 1 = 12 - (n : Int) := by push_cast; omega
    have h1 : SF (9 * n + 9 + 7) dq (n + 1) (12 - ((n + 1 : Nat) : Int)) := x_152 (fun n' h => by
      have e2 : n' = n := by omega
      rw [e1, e2]; exact ih.2) rfl
    have h2 : SA 151 5 (9 * n + 12 + 5) dq (n + 1) (12 - ((n + 1 : Nat) : Int)) := x_un (fun n' h => by
      have e2 : n' = n := by omega
      rw [e1, e2]; exact SA_le ih.1 (by omega)) (SF_le h1 (by omega)) rfl
    have e3 : 9 * n + 12 + 5 = 9 * (n + 1) + 8 := by omega
    rw [e3] at h2
    refine ⟨h2, ?_⟩
    have := e_of_un (D := 9 * (n + 1) + 5) h2
    exact this
end FI
end T95_er
section T96_er
/-! an e as a whole: X.e against Q.expression -/
def e0_ (M : mm_) : mm_ := up_ (up_ (up_ (up_ M 6 112 0) 6 116 0) 6 118 0) 234 0 0
def eF_ (M : mm_) (t p bd : Int) : mm_ := up_ (up_ (up_ M 6 107 t) 6 108 p) 6 109 bd
section ET
variable {dq n : Nat} {b F : Int} {Mx Mq M : mm_} {a o f cc : Int} {cd : List Int} {fm : List (Int × Int)} {K : Int → mm_ → Prop} {Kv : mm_ → Prop} {Qt : qt_}
theorem e0_6 [Inhabited gh_] {i : Int} (h1 : i ≠ 112) (h2 : i ≠ 116) (h3 : i ≠ 118) : e0_ M 6 i = M 6 i := by unfold e0_; rw [up_ne (by decide), up_off h3, up_off h2, up_off h1]
theorem e0_r [Inhabited gh_] {r : Nat} (h1 : r ≠ 6) (h2 : r ≠ 234) : e0_ M r = M r := by unfold e0_; rw [up_ne h2, up_ne h1, up_ne h1, up_ne h1]
theorem e0_QF [Inhabited gh_] : QF M (e0_ M) := ⟨by unfold e0_; exact Fr_up (Fr_up (Fr_up (Fr_up Fr_rf (by decide)) (by decide)) (by decide)) (by decide), fun i _ _ _ _ _ h1 h2 h3 => e0_6 h1 h2 h3⟩
theorem e0_QE [Inhabited gh_] (hf : M 6 104 = f + fm.length) (hs : stF M f fm) : QE (e0_ M) [] [] [0] f fm := by
  refine ⟨?_, trivial, ?_, trivial, ?_, ⟨?_, trivial⟩, ?_, stF_c _ (fun i _ _ => by rw [e0_r (by decide) (by decide), e0_r (by decide) (by decide)]; exact ⟨rfl, rfl⟩) hs⟩
  · unfold e0_; rw [up_ne (by decide), up_off (by decide), up_off (by decide), up_at]; rfl
  · unfold e0_; rw [up_ne (by decide), up_off (by decide), up_at]; rfl
  · unfold e0_; rw [up_ne (by decide), up_at]; rfl
  · unfold e0_; exact up_at
  · rw [e0_6 (by decide) (by decide) (by decide), hf]
/-- both are ahead of an e that stands alone -/
def EQ9 [Inhabited gh_] (b F : Int) (Mx Mq : mm_) (a o f : Int) (fm : List (Int × Int)) (cc : Int) (cd : List Int) : Prop := Tks Mx Mq ∧ VT Mx Mq ∧ ER b F Mx Mq a o ∧ XE Mx cc cd ∧ Mq 6 104 = f + fm.length ∧ stF Mq f fm ∧ 0 ≤ f ∧ f + fm.length ≤ 1500 + a
theorem e_top [Inhabited gh_] (hn : n ≤ 12) (ho : o = 12 - (n : Int)) (h : EQ9 b F Mx Mq a o f fm cc cd) (hS : b = 1 → ES (Mx 70) 0 o a ≠ none)
    (hK : ∀ s Mx' Ms a' c' y t bd l, EP (nE n t) b F Mx (e0_ Mq) Mx' Ms a a' o [] [] c' [] f fm cc cd y s t bd l → (b = 1 → bd = 1 → s = -1) → ES (Mx 70) 0 o a = some a' → (∀ (Kv : mm_ → Prop) (Qt : qt_), Kv (eF_ Ms t (Mx 71 a) bd) → Tr_ wd0 pg0 (dq + 11) 271 [.inr (.inr 6)] Mq (rv_ Kv) Qt) → K s Mx')
    (hQ : b = 0 → ∀ Mx', XF Mx Mx' → (∀ (Kv : mm_ → Prop) (Qt : qt_), (∀ M', sp_ M' → in9_ M' → M' 6 13 = Mx' 1 4 → P14 Mx' M' → QF Mq M' → Kv M') → Tr_ wd0 pg0 (dq + 11) 271 [.inr (.inr 6)] Mq (rv_ Kv) Qt) → Qt 8 Mx') :
    Tr_ wd0 pg0 (9 * n + 13) 146 [.inr (.inr 1)] Mx (ri_ K) Qt := by
  obtain ⟨hT, hVT, hER, hXE, hf, hsf, hf0, hf1⟩ := h
  have ha := ER_a hER
  have hPR : PR b F Mx (e0_ Mq) a o [] [] 0 [] f fm cc cd := by
    refine ⟨Tks_c XF_rf e0_QF hT, VT_c XF_rf e0_QF hVT, ER_Q hER ?_ ?_ ?_ ?_ ?_, e0_QE hf hsf, hXE, fun x hx => absurd hx (by simp), fun x hx => absurd hx (by simp), .inl rfl, rfl, ?_, ?_, ?_, hf0, ?_⟩
    all_goals try (exact e0_6 (by decide) (by decide) (by decide))
    · have := hER.2.2.2.2.2.1.1; simp only [List.length_nil]; omega
    · simp only [List.length_nil]; omega
    · simp only [List.length_nil]; omega
    · simp only [List.length_nil]; omega
  have start : ∀ (Kv : mm_ → Prop) (Qt : qt_), (∀ V : vv_, Cl_ wd0 (Tr_ wd0 pg0 (dq + 10)) V (rv_ Kv) Qt m_271 → Wk_ V → V 26 [rr 6, ii 0, ii 1, none] [] (e0_ Mq)) → Tr_ wd0 pg0 (dq + 11) 271 [.inr (.inr 6)] Mq (rv_ Kv) Qt := by
    intro Kv Qt h9
    refine t_271 fun V hV hW => b_271_0 (Tr_mono _) hV hW Mq ?_
    exact ⟨⟨by omega, .inl rfl⟩, h9 V hV hW⟩
  have he := (e_all dq n hn).2
  rw [← ho] at he
  refine he b F Mx (e0_ Mq) a [] [] 0 [] f fm cc cd K Qt hPR trivial (by decide) (fun _ => rfl) hS ?_ ?_
  · intro s Mx' Mq' Ms a' c' y t bd l hP hs hB hS4 hc01 hNX
    refine hK s Mx' Ms a' c' y t bd l hP hs hS4 fun Kv Qt hk => start Kv Qt fun V hV hW => ?_
    obtain ⟨hBr, hR, pend, wsP, fmP, hE, hpe, hlen, h12', h16, h13, hQF⟩ := hB
    have hER1 := hP.2.2.2.1
    have ha1 := ER_a hER1
    have hT2 := hPR.1
    have hKQ : KQ (Mx 70 a') (Mq' 149 a') (Mq' 151 a') := KQ_at hT2 hP.2.1 hQF hER1.1
    have hnp := nb_pend pend [] hpe
    have e118 : Mq' 6 118 = 0 := by have := hE.2.2.2.2.1; simp only [List.length_cons, List.length_nil] at this; push_cast at this; (clear hn ho hS hK hQ hT hVT hER hXE hf hsf hf0 hf1 ha hPR start he hP hs hS4 hc01 hNX hk hV hW hBr hR hE hpe hlen h12' h16 h13 hQF hER1 ha1 hT2 hKQ hnp; lia)
    have e234 : Mq' 234 (Mq' 6 118) = c' := by rw [e118]; exact hE.2.2.2.2.2.1.1
    have hg1 : go_ Mq' := by
      unfold go_; rw [h16]
      rcases hER1.2.2.2.2.2.2.2.2.1 with h | h
      · left; rw [h13 h]; omega
      · right; omega
    have hin : in9_ Mq' := by unfold in9_; rw [h12']; (clear hn ho hS hK hQ hT hVT hER hXE hf hsf hf0 hf1 ha hPR start he hP hs hS4 hc01 hNX hk hV hW hBr hR hE hpe hlen h16 h13 hQF hER1 hT2 hKQ hnp e118 e234 hg1; omega)
    refine hBr V _ _ hV hW ?_
    refine l_271_26n (k := Mx 70 a') (a := a') hV hW hE (by (clear hn ho hS hK hQ hT hVT hER hXE hf hsf hf0 hf1 ha hPR start he hP hs hS4 hc01 hNX hk hV hW hBr hR hE hpe h16 h13 hQF hER1 hT2 hKQ hnp e118 e234 hg1 hin; lia)) (by simp only [List.length_cons, List.length_nil]; rw [hnp.1]; rfl) hg1 h12' ha1.1 (by (clear hn ho hS hK hQ hT hVT hER hXE hf hsf hf0 hf1 ha hPR start he hP hs hS4 hc01 hNX hk hV hW hBr hR hE hpe hlen h16 h13 hQF hER1 hT2 hKQ hnp e118 e234 hg1 hin; omega)) hKQ (by rw [hnp.2]; have := kq_0 hKQ; show Mx 70 a' ≠ -1; omega) ?_
    refine l_271_90e (k := Mx 70 a') (a := a') hV hW hin h12' hKQ ?_ (fun _ => ?_) (fun h => absurd h (by (clear hn ho hS hK hQ hT hVT hER hXE hf hsf hf0 hf1 ha hPR start he hP hs hS4 hc01 hNX hk hV hW hBr hR hE hpe hlen h12' h16 h13 hQF hER1 ha1 hT2 hKQ hnp e234 hg1 hin; lia)))
    · by_cases h1 : 1 ≤ lv_ (Mx 70 a')
      · have := hNX.1 h1
        exact .inr ⟨this.1, by omega, by omega, by rw [e234, this.2.2]; decide⟩
      · left; have := (lv_r (k := Mx 70 a')).1; (clear hn ho hS hK hQ hT hVT hER hXE hf hsf hf0 hf1 ha hPR start he hP hs hS4 hc01 hNX hk hV hW hBr hR hE hpe hlen h12' h16 h13 hQF hER1 ha1 hT2 hKQ hnp e118 e234 hg1 hin; lia)
    · refine b_271_26 (Tr_mono _) hV hW 1 0 Mq' ?_
      rw [if_pos rfl]
      refine b_271_142 (Tr_mono _) hV hW 1 0 Mq' ?_
      refine q_227g hg1 ?_
      rw [if_pos rfl]
      have hE2 := hP.2.2.2.2.1
      refine q_286 (lev := 1) (x := 0) (Red_up hR) (by decide) (by decide) hE2 (by simp) (.inr ⟨by decide, by decide⟩) ?_
      have e1 : Ms 231 0 = t := hE2.2.2.2.1.1
      have e2 : Ms 232 0 = Mx 71 a := hE2.2.2.2.1.2.1
      have e3 : Ms 233 0 = bd := hE2.2.2.2.1.2.2.1
      rw [e1, e2, e3]
      exact ⟨by omega, by omega, by omega, fun _ => ⟨hP.2.2.2.2.2.1, rv_i hk⟩⟩
  · intro hb Mx' hw
    refine hQ hb Mx' hw.1 fun Kv Qt hk => start Kv Qt fun V hV hW => ?_
    refine hw.2 V _ _ hV hW fun M' x1 x2 h1 h2 h3 h4 h5 => ?_
    refine b_271_142 (Tr_mono _) hV hW x1 x2 M' ?_
    refine q_227s h1 ?_
    rw [if_neg (by decide)]
    exact rv_i (hk M' h1 h2 h3 h4 (QF_tr e0_QF h5))
end ET
end T96_er
section T97_er
/-! an e of which a sort is wanted: X.wants against Q.wanted -/
/-- what an e that stands alone leaves of Q as it was -/
def QG (M M' : mm_) : Prop := Fr_ [6, 227, 228, 229, 230, 231, 232, 233, 234] M M' ∧ ∀ i : Int, i ≠ 12 → i ≠ 13 → i ≠ 14 → i ≠ 15 → i ≠ 104 → i ≠ 107 → i ≠ 108 → i ≠ 109 → i ≠ 112 → i ≠ 116 → i ≠ 118 → M' 6 i = M 6 i
theorem QG_QF [Inhabited gh_] {M M' : mm_} (h : QF M M') : QG M M' := ⟨h.1, fun i a b c e g _ _ _ h1 h2 h3 => h.2 i a b c e g h1 h2 h3⟩
theorem QG_rf [Inhabited gh_] {M : mm_} : QG M M := QG_QF QF_rf
theorem QG_tr [Inhabited gh_] {M M1 M2 : mm_} (h1 : QG M M1) (h2 : QG M1 M2) : QG M M2 := ⟨Fr_tr h1.1 h2.1, fun i a b c e g h j k l m o => (h2.2 i a b c e g h j k l m o).trans (h1.2 i a b c e g h j k l m o)⟩
theorem eF_6 [Inhabited gh_] {M : mm_} {t p bd i : Int} (h1 : i ≠ 107) (h2 : i ≠ 108) (h3 : i ≠ 109) : eF_ M t p bd 6 i = M 6 i := by unfold eF_; rw [up_off h3, up_off h2, up_off h1]
theorem eF_r [Inhabited gh_] {M : mm_} {t p bd : Int} {r : Nat} (h : r ≠ 6) : eF_ M t p bd r = M r := by unfold eF_; rw [up_ne h, up_ne h, up_ne h]
theorem eF_QG [Inhabited gh_] {M : mm_} {t p bd : Int} : QG M (eF_ M t p bd) := ⟨by unfold eF_; exact Fr_up (Fr_up (Fr_up Fr_rf (by decide)) (by decide)) (by decide), fun i _ _ _ _ _ h1 h2 h3 _ _ _ => eF_6 h1 h2 h3⟩
/-- X's memory behind wants, Q's behind wanted -/
def wX_ (M : mm_) (s w t : Int) : mm_ := if w = -1 then M else hX_ M s w t
def wQ_ (Ms : mm_) (t p bd w : Int) : mm_ := if w = -1 ∨ bd ≠ 0 ∨ t = w + 1 then pu_ (eF_ Ms t p bd) 0 0 else nt_ (pu_ (eF_ Ms t p bd) 0 0) 5 p
/-- both have read an e of which a sort was wanted (w: X's number, -1 none) -/
def WP [Inhabited gh_] (n : Nat) (b F : Int) (Mx Mq Mx' Mq' : mm_) (a a' o f : Int) (fm : List (Int × Int)) (cc : Int) (cd y : List Int) (l : List (Int × Int)) (w : Int) : Prop :=
  a < a' ∧ XF Mx Mx' ∧ QG Mq Mq' ∧ ER b F Mx' Mq' a' o ∧ Mq' 6 104 = f + (l.length + fm.length + 1 : Int) ∧ stF Mq' f ((0, 0) :: (l ++ fm)) ∧ (l.length : Int) ≤ a' - a ∧ XE Mx' cc (y ++ cd) ∧ (b = 0 → y = []) ∧ (y.length : Int) ≤ 3 * (a' - a) ∧ (Mx' 1 7 - 8 * a' + 3 ≤ Mx 1 7 - 8 * a ∧ Mx 1 7 ≤ Mx' 1 7)
  ∧ (b = 1 → (∃ t, (w ≠ -1 → t = w + 1) ∧ (1 ≤ t ∧ t ≤ 3) ∧ fqq_ Mq' = fqq_ Mq ∧ Mx' 1 7 = Mx 1 7 ∧ y = er_ Mq l ∧ ∀ (st : List Int) (D : Int), st.length + nE n t ≤ D → ty_ Mq D l st (t :: st)) ∨ kk_ (Mq' 6 13) (Mq' 6 14) < 8 * Mx 71 a')
section WA
variable {dq n : Nat} {b F : Int} {Mx Mq M : mm_} {a o f cc w : Int} {cd : List Int} {fm : List (Int × Int)} {K : Int → mm_ → Prop} {Kv : mm_ → Prop} {Qt : qt_}
theorem q_270 [Inhabited gh_] {Ms : mm_} {t p bd : Int} (hg : go_ Mq) (hg2 : go_ Ms) (h104 : 0 ≤ Ms 6 104 ∧ Ms 6 104 < 3000) (hbd : bd = 0 ∨ bd = 1) (hw : -1 ≤ w) (he : ∀ (Kv : mm_ → Prop) (Qt : qt_), Kv (eF_ Ms t p bd) → Tr_ wd0 pg0 (dq + 11) 271 [.inr (.inr 6)] Mq (rv_ Kv) Qt) (h : K (Mq 6 104) (wQ_ Ms t p bd w)) : Tr_ wd0 pg0 (dq + 12) 270 [.inr (.inr 6), .inl (w + 1)] Mq (ri_ K) Qt := t_270 fun V hV hW => b_270_0 (Tr_mono _) hV hW (w + 1) Mq (by
  refine q_227g hg ?_
  rw [if_pos rfl]
  refine he _ _ ?_
  have hg3 : go_ (eF_ Ms t p bd) := by unfold go_; rw [eF_6 (by decide) (by decide) (by decide), eF_6 (by decide) (by decide) (by decide)]; exact hg2
  refine q_227g hg3 ?_
  rw [if_pos rfl]
  refine q_277 (by rw [eF_6 (by decide) (by decide) (by decide)]; exact h104.1) (by rw [eF_6 (by decide) (by decide) (by decide)]; exact h104.2) ?_
  have e107 : pu_ (eF_ Ms t p bd) 0 0 6 107 = t := by rw [pu_6 (by decide)]; unfold eF_; rw [up_off (by decide), up_off (by decide), up_at]
  have e108 : pu_ (eF_ Ms t p bd) 0 0 6 108 = p := by rw [pu_6 (by decide)]; unfold eF_; rw [up_off (by decide), up_at]
  have e109 : pu_ (eF_ Ms t p bd) 0 0 6 109 = bd := by rw [pu_6 (by decide)]; unfold eF_; rw [up_at]
  rw [e107, e108, e109]
  unfold wQ_ at h
  by_cases c1 : w + 1 ≤ 0
  · rw [if_pos c1]
    rw [if_pos (.inl (by (clear hg hg2 h104 hbd he h hV hW hg3 e107 e108 e109; lia)))] at h
    exact ri_i h
  · rw [if_neg c1]
    intro _
    by_cases c2 : bd = 0
    · rw [if_pos c2]
      by_cases c3 : t = w + 1
      · rw [if_pos c3]
        rw [if_pos (.inr (.inr c3))] at h
        exact ri_i h
      · rw [if_neg c3]
        rw [if_neg (by (clear hg hg2 h104 hbd hw he h hV hW hg3 e107 e108 e109; lia))] at h
        exact q_236 (ri_i h)
    · rw [if_neg c2]
      rw [if_pos (.inr (.inl c2))] at h
      exact ri_i h)
theorem x_145 [Inhabited gh_] {wq : Int} (hn : n ≤ 12) (ho : o = 12 - (n : Int)) (hw : -1 ≤ w ∧ w ≤ 2) (hq0 : -1 ≤ wq) (hwq : b = 1 → wq = w) (h : EQ9 b F Mx Mq a o f fm cc cd) (hS : b = 1 → ES (Mx 70) 0 o a ≠ none)
    (hK : ∀ Mx' Mq' a' y l, WP n b F Mx Mq Mx' Mq' a a' o f fm cc cd y l w → ES (Mx 70) 0 o a = some a' → (∀ (Kq : Int → mm_ → Prop) (Qtq : qt_), Kq (Mq 6 104) Mq' → Tr_ wd0 pg0 (dq + 12) 270 [.inr (.inr 6), .inl (wq + 1)] Mq (ri_ Kq) Qtq) → Kv Mx')
    (hQ : b = 0 → ∀ Mx', XF Mx Mx' → (∀ (Kq : Int → mm_ → Prop) (Qtq : qt_), (∀ M', sp_ M' → in9_ M' → M' 6 13 = Mx' 1 4 → P14 Mx' M' → QF Mq M' → Kq (-1) M') → Tr_ wd0 pg0 (dq + 12) 270 [.inr (.inr 6), .inl (wq + 1)] Mq (ri_ Kq) Qtq) → Qt 8 Mx') :
    Tr_ wd0 pg0 (9 * n + 14) 145 [.inr (.inr 1), .inl w] Mx (rv_ Kv) Qt := by
  have h9 := h
  obtain ⟨hT, hVT, hER, hXE, hf, hsf, hf0, hf1⟩ := h9
  have ha := ER_a hER
  have h3 : Mx 1 3 = a := hER.2.1
  have hgo := ER_goq hER
  refine t_145 fun V hV hW => b_145_0 (Tr_mono _) hV hW w Mx ?_
  rw [h3]
  refine e_top (dq := dq) hn ho h hS ?_ ?_
  · intro s Mx' Ms a' c' y t bd l hP hs hS4 hq
    have hP9 := hP
    obtain ⟨u1, u2, u3, u4, u5, u6, u7, ⟨u8, u9, u10, u11⟩, ⟨u12, u13⟩, u14, u15⟩ := hP9
    have hp := tk_p hT hER.1
    have ha' := ER_a u4
    have hQM : QF Mq Ms := QF_tr e0_QF u3
    have h104 : Ms 6 104 = f + (l.length + fm.length : Int) := by rw [u5.2.2.2.2.2.2.1]; simp only [List.length_append]; push_cast; rfl
    have h71 : Mx' 71 = Mx 71 := XF_70 u2 (by decide) (by decide) (by decide)
    have hsf' : stF (pu_ (eF_ Ms t (Mx 71 a) bd) 0 0) f ((0, 0) :: (l ++ fm)) := by
      have e1 : QE (eF_ Ms t (Mx 71 a) bd) [] [(t, Mx 71 a, bd)] [c'] f (l ++ fm) := QE_sc (QE_sc (QE_sc u5 (by decide) (by decide) (by decide) (by decide)) (by decide) (by decide) (by decide) (by decide)) (by decide) (by decide) (by decide) (by decide)
      exact (pu_QE (x := 0) (y := 0) e1).2.2.2.2.2.2.2
    have p104 : pu_ (eF_ Ms t (Mx 71 a) bd) 0 0 6 104 = f + (l.length + fm.length + 1 : Int) := by unfold pu_; rw [up_at, eF_6 (by decide) (by decide) (by decide), h104]; (clear hn ho hw hq0 hwq h hS hK hQ hT hVT hER hXE hf hsf hf0 hf1 ha h3 hgo hV hW hP hs hS4 hq u1 u2 u3 u4 u5 u6 u7 u8 u9 u10 u11 u12 u13 u14 u15 hp ha' hQM h104 h71 hsf'; lia)
    have pER : ER b F Mx' (pu_ (eF_ Ms t (Mx 71 a) bd) 0 0) a' o := by
      refine ER_Q u4 ?_ ?_ ?_ ?_ ?_ <;> rw [pu_6 (by decide), eF_6 (by decide) (by decide) (by decide)]
    have pQG : QG Mq (pu_ (eF_ Ms t (Mx 71 a) bd) 0 0) := QG_tr (QG_QF hQM) (QG_tr eF_QG (QG_QF pu_QF))
    have pfq : fqq_ (pu_ (eF_ Ms t (Mx 71 a) bd) 0 0) = fqq_ Ms := by unfold fqq_; rw [pu_6 (by decide), pu_6 (by decide), eF_6 (by decide) (by decide) (by decide), eF_6 (by decide) (by decide) (by decide)]
    have hfe0 : fqq_ (e0_ Mq) = fqq_ Mq := by unfold fqq_; rw [e0_6 (by decide) (by decide) (by decide), e0_6 (by decide) (by decide) (by decide)]
    have hqw : ∀ (Kq : Int → mm_ → Prop) (Qtq : qt_), Kq (Mq 6 104) (wQ_ Ms t (Mx 71 a) bd wq) → Tr_ wd0 pg0 (dq + 12) 270 [.inr (.inr 6), .inl (wq + 1)] Mq (ri_ Kq) Qtq := fun Kq Qtq hk => q_270 hgo (ER_goq u4) (by rw [h104]; (clear hn ho hw hq0 hwq h hS hK hQ hT hVT hER hXE hf hsf ha hgo hV hW hP hs hS4 hq u1 u2 u3 u4 u5 u6 u8 u9 u10 u11 u12 u13 u14 u15 hp hQM h71 hsf' pER pQG pfq hfe0 hk; lia)) u6 hq0 hq hk
    have ga' : gd_ Mx a' := gd_c (XF_70 u2 (r := 70) (by decide) (by decide) (by decide)).symm u4.1
    have hmono := (hT a' ga').2.2.2.2.1 a hER.1 u1
    have hb01 := hER.2.2.2.2.2.2.2.2.1
    -- what is left when nothing is noted by wants
    have plain : (b = 1 → bd = 0 → w ≠ -1 → t = w + 1) → WP n b F Mx Mq Mx' (pu_ (eF_ Ms t (Mx 71 a) bd) 0 0) a a' o f fm cc cd y l w := by
      intro hc
      refine ⟨u1, u2, pQG, pER, p104, hsf', u7, u8, u9, u11, ⟨by (clear hn ho hw hq0 hwq h hS hK hQ hT hVT hER hXE hf hsf hf0 hf1 ha hgo hV hW hP hs hS4 hq u1 u2 u3 u4 u5 u6 u7 u8 u9 u10 u11 u13 u14 u15 hp ha' hQM h104 h71 hsf' p104 pER pQG pfq hfe0 hqw ga' hmono hb01 hc; omega), u13⟩, fun hb => ?_⟩
      rcases u6 with h | h
      · have e := (u14 hb).1 h
        left
        refine ⟨t, hc hb h, ⟨e.2.1, e.2.2.1⟩, by rw [pfq, e.2.2.2.2, hfe0], e.2.2.2.1, by rw [u10 hb h, er_c e0_QF], fun st D hD => ty_c e0_QF l st _ (u15 hb h st D hD)⟩
      · right
        have e := ((u14 hb).2 h).2.2
        rw [pu_6 (by decide), pu_6 (by decide), eF_6 (by decide) (by decide) (by decide), eF_6 (by decide) (by decide) (by decide)]
        exact e
    have q0 : b = 0 → wQ_ Ms t (Mx 71 a) bd wq = pu_ (eF_ Ms t (Mx 71 a) bd) 0 0 := by
      intro hb
      unfold wQ_
      split
      · rfl
      · unfold nt_
        rw [if_pos]
        rw [pu_6 (by decide), eF_6 (by decide) (by decide) (by decide), u4.2.2.2.2.2.2.2.1]; exact hb
    by_cases cw : w = -1
    · -- nothing is wanted
      have e1 : wQ_ Ms t (Mx 71 a) bd wq = pu_ (eF_ Ms t (Mx 71 a) bd) 0 0 := by
        rcases hb01 with hb | hb
        · exact q0 hb
        · unfold wQ_; rw [if_pos (.inl (by rw [hwq hb]; exact cw))]
      rw [e1] at hqw
      have hk := hK Mx' _ a' y l (plain (fun _ _ h => absurd cw h)) hS4 hqw
      intro _
      by_cases c1 : Mx' 1 8 = 0
      · rw [if_pos c1]; exact rv_i hk
      · rw [if_neg c1, if_pos cw]; exact rv_i hk
    · refine x_145t (d := 9 * n + 12) cw ha.1 (by (clear hn ho hw hq0 hwq h hS hK hQ hT hVT hER hXE hf hsf hf0 hf1 hgo hV hW hP hs hS4 hq u1 u2 u3 u4 u5 u6 u7 u8 u9 u10 u11 u12 u13 u14 u15 hp ha' hQM h104 h71 hsf' p104 pER pQG pfq hfe0 hqw ga' hmono hb01 plain q0 cw; omega)) (ER_fl u4) ?_
      rcases hX_c (M := Mx') s w a u4.2.2.2.2.2.2.1 hb01 with hc | hc
      · -- no note
        have hok : b = 1 → bd = 0 → t = w + 1 := by
          intro hb h
          have e := (u14 hb).1 h
          rcases hc.2 with h8 | h8 | h8 <;> (clear hn ho hw hq0 hwq hS hK hQ hT hVT hER hXE hf hsf hf0 hf1 ha h3 hgo hV hW hP hs hS4 hq u1 u2 u3 u4 u5 u6 u7 u8 u9 u10 u11 u12 u13 u14 u15 hp ha' hQM h104 h71 hsf' p104 pER pQG pfq hfe0 hqw ga' hmono hb01 plain q0 cw hc h; omega)
        have e1 : wQ_ Ms t (Mx 71 a) bd wq = pu_ (eF_ Ms t (Mx 71 a) bd) 0 0 := by
          rcases hb01 with hb | hb
          · exact q0 hb
          · unfold wQ_
            rw [if_pos]
            rw [hwq hb]
            rcases u6 with h7 | h7
            · exact .inr (.inr (hok hb h7))
            · exact .inr (.inl (by (clear hn ho hw hq0 hwq h hS hK hQ hT hVT hER hXE hf hsf hf0 hf1 ha h3 hgo hV hW hP hs hS4 hq u1 u2 u3 u4 u5 u7 u8 u9 u10 u11 u12 u13 u14 u15 hp ha' hQM h104 h71 hsf' p104 pER pQG pfq hfe0 hqw ga' hmono plain q0 cw hc hok hb; lia)))
        rw [e1] at hqw
        rw [hc.1]
        exact hK Mx' _ a' y l (plain (fun hb h _ => hok hb h)) hS4 hqw
      · -- a note
        have hb := hc.1
        have h8 : bd = 0 ∧ t ≠ w + 1 := by
          rcases u6 with h | h
          · have e := (u14 hb).1 h
            exact ⟨h, fun h7 => hc.2.2.1 (by (clear hn ho hw hq0 hwq hS hK hQ hT hVT hER hXE hf hsf hf0 hf1 ha h3 hgo hV hW hP hs hS4 hq u1 u2 u3 u4 u5 u7 u8 u9 u10 u11 u12 u13 u14 u15 hp ha' hQM h104 h71 hsf' p104 pER pQG pfq hfe0 hqw ga' hmono hb01 plain q0 cw hc hb h; omega))⟩
          · exact absurd (hs hb h) hc.2.1
        have e1 : wQ_ Ms t (Mx 71 a) bd wq = nt_ (pu_ (eF_ Ms t (Mx 71 a) bd) 0 0) 5 (Mx 71 a) := by unfold wQ_; rw [hwq hb, if_neg (by (clear hn ho hw hq0 hwq h hS hK hQ hT hVT hER hXE hf hsf hf0 hf1 ha h3 hgo hV hW hP hs hS4 hq u1 u2 u3 u4 u5 u6 u7 u8 u9 u10 u11 u12 u13 u14 u15 hp ha' hQM h104 h71 hsf' p104 pER pQG pfq hfe0 hqw ga' hmono hb01 plain q0 hb; lia))]
        rw [e1] at hqw
        rw [hc.2.2.2]
        have hbb := hER.2.2.2.2.2.2.2.2.2.2.2.2.1
        have hnt := ER_nt (k := 5) (t := a) (p := Mx 71 a) pER hb (by decide) (by rw [h71]) hp (by omega)
        refine hK _ _ a' y l ⟨u1, XF_tr u2 nt1_XF, QG_tr pQG (QG_QF nt_QF), hnt.1, by rw [nt_6 (by decide) (by decide)]; exact p104, stF_c _ (fun i _ _ => by rw [nt_r (by decide), nt_r (by decide)]; exact ⟨rfl, rfl⟩) hsf', u7, XE_c (by rw [nt1_r (by decide)]) (nt1_r (by decide)) u8, u9, u11, ⟨by rw [nt1_7]; (clear hn ho hw hq0 hwq h hS hK hQ hT hVT hER hXE hf hsf hf0 hf1 ha hgo hV hW hP hs hS4 hq u1 u2 u3 u4 u5 u6 u7 u8 u9 u10 u11 u13 u14 u15 hp ha' hQM h104 h71 hsf' p104 pER pQG pfq hfe0 hqw ga' hmono hb01 plain q0 cw hc hb h8 e1 hbb hnt; lia), by rw [nt1_7]; (clear hn ho hw hq0 hwq h hS hK hQ hT hVT hER hXE hf hsf hf0 hf1 ha h3 hgo hV hW hP hs hS4 hq u1 u2 u3 u4 u5 u6 u7 u8 u9 u10 u11 u12 u14 u15 hp ha' hQM h104 h71 hsf' p104 pER pQG pfq hfe0 hqw ga' hmono hb01 plain q0 cw hc hb h8 e1 hbb hnt; lia)⟩, fun _ => .inr ?_⟩ hS4 hqw
        have := hnt.2
        (clear hn ho hw hq0 hwq h hS hK hQ hT hVT hER hXE hf hsf hf0 hf1 ha h3 hgo hV hW hP hs hS4 hq u1 u2 u3 u4 u5 u6 u7 u8 u9 u10 u11 u12 u13 u14 u15 hp ha' hQM h104 h71 hsf' p104 pER pQG pfq hfe0 hqw ga' hb01 plain q0 cw hc hb h8 e1 hbb this; lia)
  · intro hb Mx' hx he
    refine hQ hb Mx' hx fun Kq Qtq hk => ?_
    refine t_270 fun V hV hW => b_270_0 (Tr_mono _) hV hW (wq + 1) Mq ?_
    refine q_227g hgo ?_
    rw [if_pos rfl]
    refine he _ _ fun M' h1 h2 h3' h4 h5 => ?_
    refine q_227s h1 ?_
    rw [if_neg (by decide)]
    exact ri_i (hk M' h1 h2 h3' h4 h5)
end WA
end T97_er
section T98_sy
/-! where acts, parts and decides end: of the kinds of tokens alone -/
/-- a loop: goes on with a state, or is through at a place -/
def lk8_ {σ : Type} (k : σ → Option Int) : σ ⊕ Int → Option Int
  | .inl s => k s
  | .inr a => some a
def lpS {σ : Type} (step : σ → Option (σ ⊕ Int)) : Nat → σ → Option Int
  | 0, _ => none
  | n + 1, s => (step s).bind (lk8_ (lpS step n))
def LPz {σ : Type} (step : σ → Option (σ ⊕ Int)) (s : σ) : Option Int := lpS step 1300 s
theorem lpS_in [Inhabited gh_] {σ : Type} {step : σ → Option (σ ⊕ Int)} (π : σ → Int) (h : ∀ s s', 0 ≤ π s → π s ≤ 1200 → step s = some (.inl s') → π s + 1 ≤ π s' ∧ π s' ≤ 1200) : ∀ (n m : Nat) (s : σ), 0 ≤ π s → π s ≤ 1200 → 1201 - π s ≤ n → 1201 - π s ≤ m → lpS step n s = lpS step m s
  | 0, _, s, _, _, _, _ => by omega
  | _ + 1, 0, s, _, _, _, _ => by (clear h; omega)
  | n + 1, m + 1, s, h0, h1, h2, h3 => by
    unfold lpS
    cases hs : step s with
    | none => rfl
    | some r =>
      cases r with
      | inr a => rfl
      | inl s' =>
        have := h s s' h0 h1 hs
        exact lpS_in π h n m s' (by (clear h h2 h3 hs; omega)) (by omega) (by omega) (by (clear h h0 h1 h2 hs; omega))
theorem LP_u [Inhabited gh_] {σ : Type} {step : σ → Option (σ ⊕ Int)} (π : σ → Int) (h : ∀ s s', 0 ≤ π s → π s ≤ 1200 → step s = some (.inl s') → π s + 1 ≤ π s' ∧ π s' ≤ 1200) {s : σ} (h0 : 0 ≤ π s) (h1 : π s ≤ 1200) : LPz step s = (step s).bind (lk8_ (LPz step)) := by
  unfold LPz
  rw [lpS_in π h 1300 1301 s h0 h1 (by (clear h; omega)) (by omega)]
  rfl
theorem lpS_r [Inhabited gh_] {σ : Type} {step : σ → Option (σ ⊕ Int)} (π : σ → Int) (h : ∀ s s', 0 ≤ π s → π s ≤ 1200 → step s = some (.inl s') → π s + 1 ≤ π s' ∧ π s' ≤ 1200) (h' : ∀ s a, 0 ≤ π s → π s ≤ 1200 → step s = some (.inr a) → π s ≤ a ∧ a ≤ 1200) : ∀ (n : Nat) (s : σ) (a : Int), 0 ≤ π s → π s ≤ 1200 → lpS step n s = some a → π s ≤ a ∧ a ≤ 1200
  | 0, s, a, _, _, e => by cases e
  | n + 1, s, a, h0, h1, e => by
    unfold lpS at e
    cases hs : step s with
    | none => rw [hs] at e; cases e
    | some r =>
      rw [hs] at e
      cases r with
      | inr a' => cases e; exact h' s _ h0 h1 hs
      | inl s' =>
        have := h s s' h0 h1 hs
        have := lpS_r π h h' n s' a (by (clear h h' e hs; omega)) (by omega) e
        omega
/-- an increasing piece -/
def inc_ (g : Int → Option Int) : Prop := ∀ a r, 0 ≤ a → a ≤ 1200 → g a = some r → a + 1 ≤ r ∧ r ≤ 1200
def inw_ (g : Int → Option Int) : Prop := ∀ a r, 0 ≤ a → a ≤ 1200 → g a = some r → a ≤ r ∧ r ≤ 1200
theorem inc_w [Inhabited gh_] {g : Int → Option Int} (h : inc_ g) : inw_ g := fun a r h0 h1 e => by have := h a r h0 h1 e; omega
theorem inc_g [Inhabited gh_] : inc_ gS := fun a r h0 h1 e => by have := gS_s e; omega
theorem inc_t [Inhabited gh_] {κ : Int → Int} {k : Int} : inc_ (tS κ k) := fun a r h0 h1 e => by have := tS_s e; omega
theorem inc_e [Inhabited gh_] {κ : Int → Int} {o : Int} : inc_ (ES κ 0 o) := fun a r h0 h1 e => ES_gt (by omega) e h1
theorem inc_n [Inhabited gh_] : inc_ (fun _ => none) := fun a r _ _ e => by cases e
theorem inw_s [Inhabited gh_] : inw_ some := fun a r _ h1 e => by cases e; omega
theorem inc_b [Inhabited gh_] {g k : Int → Option Int} (h : inc_ g) (h2 : inw_ k) : inc_ (fun a => (g a).bind k) := fun a r h0 h1 e => by
  cases hg : g a with
  | none => simp only [hg, Option.bind_none] at e; cases e
  | some r1 =>
    simp only [hg, Option.bind_some] at e
    have e1 := h a r1 h0 h1 hg
    have e2 := h2 r1 r (by (clear h h2 hg e; lia)) (by omega) e
    omega
theorem inc_b2 [Inhabited gh_] {g k : Int → Option Int} (h : inw_ g) (h2 : inc_ k) : inc_ (fun a => (g a).bind k) := fun a r h0 h1 e => by
  cases hg : g a with
  | none => simp only [hg, Option.bind_none] at e; cases e
  | some r1 =>
    simp only [hg, Option.bind_some] at e
    have e1 := h a r1 h0 h1 hg
    have e2 := h2 r1 r (by omega) (by omega) e
    omega
theorem inw_b [Inhabited gh_] {g k : Int → Option Int} (h : inw_ g) (h2 : inw_ k) : inw_ (fun a => (g a).bind k) := fun a r h0 h1 e => by
  cases hg : g a with
  | none => simp only [hg, Option.bind_none] at e; cases e
  | some r1 =>
    simp only [hg, Option.bind_some] at e
    have e1 := h a r1 h0 h1 hg
    have e2 := h2 r1 r (by omega) (by omega) e
    omega
theorem inc_i [Inhabited gh_] {p : Int → Prop} [∀ a, Decidable (p a)] {g k : Int → Option Int} (h : inc_ g) (h2 : inc_ k) : inc_ (fun a => if p a then g a else k a) := fun a r h0 h1 e => by
  by_cases c : p a
  · simp only [c, if_true] at e; exact h a r h0 h1 e
  · simp only [c, if_false] at e; exact h2 a r h0 h1 e
theorem inw_i [Inhabited gh_] {p : Int → Prop} [∀ a, Decidable (p a)] {g k : Int → Option Int} (h : inw_ g) (h2 : inw_ k) : inw_ (fun a => if p a then g a else k a) := fun a r h0 h1 e => by
  by_cases c : p a
  · simp only [c, if_true] at e; exact h a r h0 h1 e
  · simp only [c, if_false] at e; exact h2 a r h0 h1 e
/-- values: behind the bracket or a comma, k of them read -/
def vS1 (κ : Int → Int) (o : Int) (s : Int × Int) : Option ((Int × Int) ⊕ Int) :=
  (gS s.1).bind fun a1 => if s.2 = 3 then none else (ES κ 0 (o + 1) a1).bind fun a2 => if κ a2 = 244 then some (.inl (a2, s.2 + 1)) else (tS κ 241 a2).bind fun a3 => some (.inr a3)
def vS (κ : Int → Int) (o a : Int) : Option Int := if κ a = 240 then (if o = 12 then none else LPz (vS1 κ o) (a, 0)) else some a
def gtS (κ : Int → Int) (o a : Int) : Option Int := (tS κ 100 a).bind fun a1 => (if κ a1 = 291 then (if o = 12 then none else (gS a1).bind fun a2 => (ES κ 0 (o + 1) a2).bind (tS κ 293)) else some a1).bind fun a4 => (tS κ 110 a4).bind (ES κ 0 o)
def ouS (κ : Int → Int) (o a : Int) : Option Int := (gS a).bind fun a1 => (tS κ 100 a1).bind fun a2 => (vS κ o a2).bind fun a3 => if κ a3 = 21 then (gS a3).bind (ES κ 0 o) else if κ a3 = 22 then (gS a3).bind (tS κ 100) else some a3
def crS (κ : Int → Int) (o a : Int) : Option Int := (gS a).bind fun a1 => (tS κ 100 a1).bind (vS κ o)
def seS (κ : Int → Int) (o a : Int) : Option Int := (gS a).bind fun a1 => (tS κ 100 a1).bind fun a2 => if κ a = 15 then ES κ 0 o a2 else some a2
def acS (κ : Int → Int) (dec : Int → Option Int) (o a : Int) : Option Int :=
  (if κ a = 100 then gtS κ o a else if κ a = 14 then ouS κ o a else if κ a = 15 ∨ κ a = 16 then seS κ o a else if κ a = 17 then crS κ o a else dec a).bind (tS κ 259)
def neS (κ : Int → Int) (a : Int) : Option Int := if κ a = 245 then gS a else tS κ 100 a
def laS (κ : Int → Int) (a : Int) : Option Int := (if κ a = 12 then gS a else if κ a = 13 then (gS a).bind (tS κ 100) else (gS a).bind (neS κ)).bind (tS κ 259)
def boS (κ : Int → Int) (a : Int) : Option Int := if κ a = 245 then (gS a).bind (tS κ 101) else tS κ 101 a
def rgS (κ : Int → Int) (a : Int) : Option Int := if κ a = 31 ∨ κ a = 32 then gS a else (boS κ a).bind fun a1 => if κ a1 = 115 then (gS a1).bind (boS κ) else some a1
abbrev isR (κ : Int → Int) (a : Int) : Prop := κ a = 101 ∨ κ a = 245 ∨ κ a = 31 ∨ κ a = 32
abbrev isL (κ : Int → Int) (a : Int) : Prop := κ a = 11 ∨ κ a = 12 ∨ κ a = 13
abbrev isA (κ : Int → Int) (a : Int) : Prop := κ a = 100 ∨ (14 ≤ κ a ∧ κ a ≤ 18)
abbrev isN (κ : Int → Int) (a : Int) : Prop := κ a = 100 ∧ κ (a + 1) = 258
/-- the ranges of a decide and their parts: at the place of a range, r of them read -/
def dcS1 (κ : Int → Int) (pt : Int → Option Int) (s : Int × Int) : Option ((Int × Int) ⊕ Int) :=
  if s.2 = 8 then none else (rgS κ s.1).bind fun a1 => if κ a1 = 244 then (gS a1).bind fun a2 => some (.inl (a2, s.2 + 1)) else (tS κ 258 a1).bind fun a2 => (pt a2).bind fun a3 => if isR κ a3 then some (.inl (a3, s.2 + 1)) else some (.inr a3)
def elS (κ : Int → Int) (pt : Int → Option Int) (a : Int) : Option Int := (if κ a = 19 then (gS a).bind fun a1 => (tS κ 258 a1).bind pt else some a).bind (tS κ 20)
def dcS (κ : Int → Int) (pt : Int → Option Int) (o a : Int) : Option Int :=
  if o = 12 then none else (gS a).bind fun a1 => (ES κ 0 (o + 1) a1).bind fun a2 => (tS κ 259 a2).bind fun a3 => (LPz (dcS1 κ pt) (a3, 0)).bind (elS κ pt)
/-- a part, at the place of a label, an act or a last -/
def ptS1 (κ : Int → Int) (dec : Int → Option Int) (o a : Int) : Option (Int ⊕ Int) :=
  if isN κ a then (gS a).bind fun a1 => (gS a1).bind fun a2 => some (.inl a2)
  else if isL κ a then (laS κ a).bind fun a1 => some (.inr a1)
  else if isA κ a then (acS κ dec o a).bind fun a1 => if isA κ a1 ∨ isL κ a1 then some (.inl a1) else some (.inr a1)
  else none
def ptS (κ : Int → Int) (dec : Int → Option Int) (o a : Int) : Option Int := if isA κ a ∨ isL κ a then LPz (ptS1 κ dec o) a else some a
/-- a part with n brackets still to be opened -/
def PT (κ : Int → Int) : Nat → Int → Option Int
  | 0 => ptS κ (dcS κ (fun _ => none) 12) 12
  | n + 1 => ptS κ (dcS κ (PT κ n) (11 - (n : Int))) (11 - (n : Int))
def DC (κ : Int → Int) : Nat → Int → Option Int
  | 0 => dcS κ (fun _ => none) 12
  | n + 1 => dcS κ (PT κ n) (11 - (n : Int))
theorem PT_e [Inhabited gh_] {κ : Int → Int} (n : Nat) : PT κ n = ptS κ (DC κ n) (12 - (n : Int)) := by
  cases n with
  | zero => rfl
  | succ n =>
    have e : (12 : Int) - ((n + 1 : Nat) : Int) = 11 - (n : Int) := by lia
    rw [e]; rfl
section SY
variable {κ : Int → Int} {o a : Int} {dec pt : Int → Option Int}
theorem vS1_l [Inhabited gh_] (s s' : Int × Int) (h0 : 0 ≤ s.1) (h1 : s.1 ≤ 1200) (h : vS1 κ o s = some (.inl s')) : s.1 + 1 ≤ s'.1 ∧ s'.1 ≤ 1200 := by
  unfold vS1 at h
  cases hg : gS s.1 with
  | none => rw [hg] at h; cases h
  | some a1 =>
    rw [hg] at h; simp only [Option.bind_some] at h
    have e1 := gS_s hg
    split at h
    · cases h
    · cases he : ES κ 0 (o + 1) a1 with
      | none => rw [he] at h; cases h
      | some a2 =>
        rw [he] at h; simp only [Option.bind_some] at h
        have e2 := ES_gt (by omega) he (by omega)
        split at h
        · cases h; simp only []; (clear h0 h1 hg he; omega)
        · cases ht : tS κ 241 a2 with
          | none => rw [ht] at h; cases h
          | some a3 => rw [ht] at h; cases h
theorem vS1_r [Inhabited gh_] (s : Int × Int) (r : Int) (h0 : 0 ≤ s.1) (h1 : s.1 ≤ 1200) (h : vS1 κ o s = some (.inr r)) : s.1 + 1 ≤ r ∧ r ≤ 1200 := by
  unfold vS1 at h
  cases hg : gS s.1 with
  | none => rw [hg] at h; cases h
  | some a1 =>
    rw [hg] at h; simp only [Option.bind_some] at h
    have e1 := gS_s hg
    split at h
    · cases h
    · cases he : ES κ 0 (o + 1) a1 with
      | none => rw [he] at h; cases h
      | some a2 =>
        rw [he] at h; simp only [Option.bind_some] at h
        have e2 := ES_gt (by omega) he (by omega)
        split at h
        · cases h
        · cases ht : tS κ 241 a2 with
          | none => rw [ht] at h; cases h
          | some a3 => rw [ht] at h; cases h; have e3 := tS_s ht; omega
theorem vS_u [Inhabited gh_] {s : Int × Int} (h0 : 0 ≤ s.1) (h1 : s.1 ≤ 1200) : LPz (vS1 κ o) s = (vS1 κ o s).bind (lk8_ (LPz (vS1 κ o))) := LP_u (step := vS1 κ o) (fun s => s.1) (fun s s' => vS1_l s s') h0 h1
theorem inw_v [Inhabited gh_] : inw_ (vS κ o) := fun a r h0 h1 e => by
  unfold vS at e
  split at e
  · split at e
    · cases e
    · exact lpS_r (step := vS1 κ o) (fun s => s.1) (fun s s' => vS1_l s s') (fun s r h0 h1 h => by have := vS1_r s r h0 h1 h; omega) 1300 (a, 0) r h0 h1 e
  · cases e; omega
theorem inc_gt [Inhabited gh_] : inc_ (gtS κ o) := inc_b inc_t (inw_b (inw_i (inw_i (inc_w inc_n) (inc_w (inc_b inc_g (inc_w (inc_b inc_e (inc_w inc_t)))))) inw_s) (inc_w (inc_b inc_t (inc_w inc_e))))
theorem inc_ou [Inhabited gh_] : inc_ (ouS κ o) := inc_b inc_g (inc_w (inc_b inc_t (inw_b inw_v (inw_i (inc_w (inc_b inc_g (inc_w inc_e))) (inw_i (inc_w (inc_b inc_g (inc_w inc_t))) inw_s)))))
theorem inc_cr [Inhabited gh_] : inc_ (crS κ o) := inc_b inc_g (inc_w (inc_b inc_t inw_v))
theorem inc_se [Inhabited gh_] : inc_ (seS κ o) := fun a r h0 h1 e => (inc_b inc_g (inc_w (inc_b inc_t (inw_i (p := fun _ => κ a = 15) (inc_w inc_e) inw_s)))) a r h0 h1 e
theorem inc_ac [Inhabited gh_] (h : inc_ dec) : inc_ (acS κ dec o) := inc_b (inc_i inc_gt (inc_i inc_ou (inc_i inc_se (inc_i inc_cr h)))) (inc_w inc_t)
theorem inc_la [Inhabited gh_] : inc_ (laS κ) := inc_b (inc_i inc_g (inc_i (inc_b inc_g (inc_w inc_t)) (inc_b inc_g (inc_w (inc_i inc_g inc_t))))) (inc_w inc_t)
theorem inc_bo [Inhabited gh_] : inc_ (boS κ) := inc_i (inc_b inc_g (inc_w inc_t)) inc_t
theorem inc_rg [Inhabited gh_] : inc_ (rgS κ) := inc_i inc_g (inc_b inc_bo (inw_i (inc_w (inc_b inc_g (inc_w inc_bo))) inw_s))
theorem dcS1_l [Inhabited gh_] (hp : inw_ pt) (s s' : Int × Int) (h0 : 0 ≤ s.1) (h1 : s.1 ≤ 1200) (h : dcS1 κ pt s = some (.inl s')) : s.1 + 1 ≤ s'.1 ∧ s'.1 ≤ 1200 := by
  unfold dcS1 at h
  split at h
  · cases h
  · cases hg : rgS κ s.1 with
    | none => rw [hg] at h; cases h
    | some a1 =>
      rw [hg] at h; simp only [Option.bind_some] at h
      have e1 := inc_rg _ _ h0 h1 hg
      split at h
      · cases ht : gS a1 with
        | none => rw [ht] at h; cases h
        | some a2 => rw [ht] at h; cases h; have e3 := gS_s ht; simp only []; omega
      · cases ht : tS κ 258 a1 with
        | none => rw [ht] at h; cases h
        | some a2 =>
          rw [ht] at h; simp only [Option.bind_some] at h
          have e3 := tS_s ht
          cases hq : pt a2 with
          | none => rw [hq] at h; cases h
          | some a3 =>
            rw [hq] at h; simp only [Option.bind_some] at h
            have e4 := hp a2 a3 (by omega) (by omega) hq
            split at h
            · cases h; simp only []; omega
            · cases h
theorem dcS1_r [Inhabited gh_] (hp : inw_ pt) (s : Int × Int) (r : Int) (h0 : 0 ≤ s.1) (h1 : s.1 ≤ 1200) (h : dcS1 κ pt s = some (.inr r)) : s.1 + 1 ≤ r ∧ r ≤ 1200 := by
  unfold dcS1 at h
  split at h
  · cases h
  · cases hg : rgS κ s.1 with
    | none => rw [hg] at h; cases h
    | some a1 =>
      rw [hg] at h; simp only [Option.bind_some] at h
      have e1 := inc_rg _ _ h0 h1 hg
      split at h
      · cases ht : gS a1 with
        | none => rw [ht] at h; cases h
        | some a2 => rw [ht] at h; cases h
      · cases ht : tS κ 258 a1 with
        | none => rw [ht] at h; cases h
        | some a2 =>
          rw [ht] at h; simp only [Option.bind_some] at h
          have e3 := tS_s ht
          cases hq : pt a2 with
          | none => rw [hq] at h; cases h
          | some a3 =>
            rw [hq] at h; simp only [Option.bind_some] at h
            have e4 := hp a2 a3 (by omega) (by omega) hq
            split at h
            · cases h
            · cases h; omega
theorem dcS_u [Inhabited gh_] (hp : inw_ pt) {s : Int × Int} (h0 : 0 ≤ s.1) (h1 : s.1 ≤ 1200) : LPz (dcS1 κ pt) s = (dcS1 κ pt s).bind (lk8_ (LPz (dcS1 κ pt))) := LP_u (step := dcS1 κ pt) (fun s => s.1) (fun s s' => dcS1_l hp s s') h0 h1
theorem inw_el [Inhabited gh_] (hp : inw_ pt) : inw_ (elS κ pt) := inw_b (inw_i (inc_w (inc_b inc_g (inc_w (inc_b inc_t hp)))) inw_s) (inc_w inc_t)
theorem inc_dc [Inhabited gh_] (hp : inw_ pt) : inc_ (dcS κ pt o) := inc_i inc_n (inc_b inc_g (inc_w (inc_b inc_e (inc_w (inc_b inc_t (inw_b (fun a r h0 h1 e => lpS_r (step := dcS1 κ pt) (fun s => s.1) (fun s s' => dcS1_l hp s s') (fun s r h0 h1 h => by have := dcS1_r hp s r h0 h1 h; omega) 1300 (a, 0) r h0 h1 e) (inw_el hp)))))))
theorem ptS1_l [Inhabited gh_] (hp : inc_ dec) (s s' : Int) (h0 : 0 ≤ s) (h1 : s ≤ 1200) (h : ptS1 κ dec o s = some (.inl s')) : s + 1 ≤ s' ∧ s' ≤ 1200 := by
  unfold ptS1 at h
  split at h
  · cases hg : gS s with
    | none => rw [hg] at h; cases h
    | some a1 =>
      rw [hg] at h; simp only [Option.bind_some] at h
      have e1 := gS_s hg
      cases ht : gS a1 with
      | none => rw [ht] at h; cases h
      | some a2 => rw [ht] at h; cases h; have e3 := gS_s ht; (clear hp hg ht; lia)
  · split at h
    · cases hg : laS κ s with
      | none => rw [hg] at h; cases h
      | some a1 => rw [hg] at h; cases h
    · split at h
      · cases hg : acS κ dec o s with
        | none => rw [hg] at h; cases h
        | some a1 =>
          rw [hg] at h; simp only [Option.bind_some] at h
          have e1 := inc_ac hp _ _ h0 h1 hg
          split at h
          · cases h; omega
          · cases h
      · cases h
theorem ptS1_r [Inhabited gh_] (hp : inc_ dec) (s r : Int) (h0 : 0 ≤ s) (h1 : s ≤ 1200) (h : ptS1 κ dec o s = some (.inr r)) : s + 1 ≤ r ∧ r ≤ 1200 := by
  unfold ptS1 at h
  split at h
  · cases hg : gS s with
    | none => rw [hg] at h; cases h
    | some a1 =>
      rw [hg] at h; simp only [Option.bind_some] at h
      cases ht : gS a1 with
      | none => rw [ht] at h; cases h
      | some a2 => rw [ht] at h; cases h
  · split at h
    · cases hg : laS κ s with
      | none => rw [hg] at h; cases h
      | some a1 => rw [hg] at h; cases h; exact inc_la _ _ h0 h1 hg
    · split at h
      · cases hg : acS κ dec o s with
        | none => rw [hg] at h; cases h
        | some a1 =>
          rw [hg] at h; simp only [Option.bind_some] at h
          have e1 := inc_ac hp _ _ h0 h1 hg
          split at h
          · cases h
          · cases h; omega
      · cases h
theorem ptS_u [Inhabited gh_] (hp : inc_ dec) (h0 : 0 ≤ a) (h1 : a ≤ 1200) : LPz (ptS1 κ dec o) a = (ptS1 κ dec o a).bind (lk8_ (LPz (ptS1 κ dec o))) := LP_u (step := ptS1 κ dec o) (fun s => s) (fun s s' => ptS1_l hp s s') h0 h1
theorem inw_pt [Inhabited gh_] (hp : inc_ dec) : inw_ (ptS κ dec o) := fun a r h0 h1 e => by
  unfold ptS at e
  split at e
  · exact lpS_r (step := ptS1 κ dec o) (fun s => s) (fun s s' => ptS1_l hp s s') (fun s r h0 h1 h => by have := ptS1_r hp s r h0 h1 h; omega) 1300 a r h0 h1 e
  · cases e; omega
theorem inw_PT [Inhabited gh_] : ∀ n, inw_ (PT κ n) ∧ inc_ (DC κ n)
  | 0 => ⟨inw_pt (inc_dc (inc_w inc_n)), inc_dc (inc_w inc_n)⟩
  | n + 1 => ⟨inw_pt (inc_dc (inw_PT n).1), inc_dc (inw_PT n).1⟩
end SY
end T98_sy
section T99_ex
/-! an e that stands alone, told without lists: what is left of it for the run -/
theorem ex_F [Inhabited gh_] (M : mm_) (f : Int) : ∀ n : Nat, ∃ l : List (Int × Int), l.length = n ∧ stF M f l
  | 0 => ⟨[], rfl, trivial⟩
  | n + 1 => by
    obtain ⟨l, h1, h2⟩ := ex_F M f n
    exact ⟨(M 227 (f + l.length), M 228 (f + l.length)) :: l, by simp only [List.length_cons]; (clear h2; lia), rfl, rfl, h2⟩
theorem ex_X [Inhabited gh_] (M : mm_) (c : Int) : ∀ n : Nat, ∃ l : List Int, l.length = n ∧ stX M c l
  | 0 => ⟨[], rfl, trivial⟩
  | n + 1 => by
    obtain ⟨l, h1, h2⟩ := ex_X M c n
    exact ⟨M 142 (c + l.length) :: l, by simp only [List.length_cons]; (clear h2; lia), rfl, h2⟩
theorem stF_app [Inhabited gh_] {M : mm_} {f : Int} : ∀ (l fm : List (Int × Int)), stF M f (l ++ fm) → stF M (f + fm.length) l ∧ stF M f fm
  | [], _, h => ⟨trivial, h⟩
  | x :: t, fm, h => by
    rw [List.cons_append] at h
    obtain ⟨h1, h2, h3⟩ := h
    have r := stF_app t fm h3
    have e : f + ((t ++ fm).length : Int) = f + (fm.length : Int) + (t.length : Int) := by rw [List.length_append]; push_cast; (clear h1 h2 h3 r; lia)
    rw [e] at h1 h2
    exact ⟨⟨h1, h2, r.1⟩, r.2⟩
theorem stX_app [Inhabited gh_] {M : mm_} {c : Int} : ∀ (l fm : List Int), stX M c (l ++ fm) → stX M (c + fm.length) l ∧ stX M c fm
  | [], _, h => ⟨trivial, h⟩
  | x :: t, fm, h => by
    rw [List.cons_append] at h
    obtain ⟨h1, h3⟩ := h
    have r := stX_app t fm h3
    have e : c + ((t ++ fm).length : Int) = c + (fm.length : Int) + (t.length : Int) := by rw [List.length_append]; push_cast; (clear h1 h3 r; omega)
    rw [e] at h1
    exact ⟨⟨h1, r.1⟩, r.2⟩
theorem stF_ag [Inhabited gh_] {M M' : mm_} {f : Int} : ∀ (l : List (Int × Int)), stF M f l → stF M' f l → ∀ i, f ≤ i → i < f + l.length → M' 227 i = M 227 i ∧ M' 228 i = M 228 i
  | [], _, _, i, h0, h1 => by simp only [List.length_nil] at h1; omega
  | x :: t, h, h', i, h0, h1 => by
    by_cases c : i = f + t.length
    · rw [c]; exact ⟨h'.1.trans h.1.symm, h'.2.1.trans h.2.1.symm⟩
    · simp only [List.length_cons] at h1
      exact stF_ag t h.2.2 h'.2.2 i h0 (by omega)
theorem stX_ag [Inhabited gh_] {M M' : mm_} {f : Int} : ∀ (l : List Int), stX M f l → stX M' f l → ∀ i, f ≤ i → i < f + l.length → M' 142 i = M 142 i
  | [], _, _, i, h0, h1 => by simp only [List.length_nil] at h1; omega
  | x :: t, h, h', i, h0, h1 => by
    by_cases c : i = f + t.length
    · rw [c]; exact h'.1.trans h.1.symm
    · simp only [List.length_cons] at h1
      exact stX_ag t h.2 h'.2 i h0 (by (clear h h' h0; omega))
/-- the tables that an e looks at are the same -/
def tb_ (M M' : mm_) : Prop := M' 171 = M 171 ∧ M' 173 = M 173 ∧ M' 182 = M 182 ∧ M' 183 = M 183 ∧ M' 184 = M 184
theorem tb_rf [Inhabited gh_] {M : mm_} : tb_ M M := ⟨rfl, rfl, rfl, rfl, rfl⟩
theorem tb_tr [Inhabited gh_] {M M1 M2 : mm_} (h1 : tb_ M M1) (h2 : tb_ M1 M2) : tb_ M M2 := ⟨h2.1.trans h1.1, h2.2.1.trans h1.2.1, h2.2.2.1.trans h1.2.2.1, h2.2.2.2.1.trans h1.2.2.2.1, h2.2.2.2.2.trans h1.2.2.2.2⟩
theorem en_t [Inhabited gh_] {M M' : mm_} (h : tb_ M M') {x : Int × Int} : en_1 M' x = en_1 M x := by unfold en_1; rw [h.2.2.2.1, h.2.2.2.2]
theorem er_t [Inhabited gh_] {M M' : mm_} (h : tb_ M M') : ∀ l : List (Int × Int), er_ M' l = er_ M l
  | [] => rfl
  | x :: t => by show en_1 M' x ++ er_ M' t = en_1 M x ++ er_ M t; rw [en_t h, er_t h t]
theorem ts_t [Inhabited gh_] {M M' : mm_} (h : tb_ M M') (h61 : M' 6 61 = M 6 61) {x : Int × Int} {s s' : List Int} (ht : ts_ M x s s') : ts_ M' x s s' := by
  unfold ts_ at *
  rw [h61, h.1, h.2.1, h.2.2.1, h.2.2.2.1]; exact ht
theorem ty_t [Inhabited gh_] {M M' : mm_} (h : tb_ M M') (h61 : M' 6 61 = M 6 61) {D : Int} : ∀ (l : List (Int × Int)) (s s' : List Int), ty_ M D l s s' → ty_ M' D l s s'
  | [], _, _, e => e
  | x :: t, s, s', ⟨s1, h1, h2, h3⟩ => ⟨s1, ty_t h h61 t s s1 h1, ts_t h h61 h2, h3⟩
/-- an e of a type T: X's steps from c up to c', Q's forms from f up to fe, its sort t -/
def EXP (Mx Mq : mm_) (T c c' f fe t : Int) : Prop := ∃ l : List (Int × Int), stF Mq f ((0, 0) :: l) ∧ stX Mx c (er_ Mq l) ∧ c' = c + (er_ Mq l).length ∧ f + l.length + 1 ≤ fe ∧ 0 ≤ f ∧ 0 ≤ c ∧ (1 ≤ t ∧ t ≤ 3) ∧ ∀ st : List Int, st.length ≤ 6 → ty_ (up_ Mq 6 61 T) 64 l st (t :: st)
theorem EXP_c [Inhabited gh_] {Mx Mq Mx' Mq' : mm_} {T c c' f fe fe' t : Int} (h : EXP Mx Mq T c c' f fe t) (hx : ∀ i, c ≤ i → i < c' → Mx' 142 i = Mx 142 i) (hq : ∀ i, f ≤ i → i < fe → Mq' 227 i = Mq 227 i ∧ Mq' 228 i = Mq 228 i) (ht : tb_ Mq Mq') (hfe : fe ≤ fe') : EXP Mx' Mq' T c c' f fe' t := by
  obtain ⟨l, h1, h2, h3, h4, h5, h6, h7, h8⟩ := h
  refine ⟨l, stF_c _ (fun i a b => hq i a (by simp only [List.length_cons] at b; (clear hx hq ht hfe h1 h2 h3 h5 h6 h7 h8 a; omega))) h1, ?_, ?_, by omega, h5, h6, h7, fun st hs => ?_⟩
  · rw [er_t ht]; exact stX_c _ (fun i a b => hx i a (by omega)) h2
  · rw [er_t ht]; exact h3
  · have e : tb_ (up_ Mq 6 61 T) (up_ Mq' 6 61 T) := by
      unfold tb_
      rw [up_ne (by decide), up_ne (by decide), up_ne (by decide), up_ne (by decide), up_ne (by decide), up_ne (by decide), up_ne (by decide), up_ne (by decide), up_ne (by decide), up_ne (by decide)]
      exact ht
    exact ty_t e (by rw [up_at, up_at]) _ _ _ (h8 st hs)
/-- both have read an e that stands alone: what X and Q leave -/
def WR [Inhabited gh_] (b F : Int) (Mx Mq Mx' Mq' : mm_) (a a' o w : Int) : Prop :=
  a < a' ∧ XF Mx Mx' ∧ QG Mq Mq' ∧ ER b F Mx' Mq' a' o ∧ (Mq 6 104 < Mq' 6 104 ∧ Mq' 6 104 ≤ Mq 6 104 + (a' - a) + 1) ∧ (∀ i, 0 ≤ i → i < Mq 6 104 → Mq' 227 i = Mq 227 i ∧ Mq' 228 i = Mq 228 i)
  ∧ (Mx 5 3 ≤ Mx' 5 3 ∧ Mx' 5 3 ≤ Mx 5 3 + 3 * (a' - a) ∧ (b = 0 → Mx' 5 3 = Mx 5 3)) ∧ (∀ i, 0 ≤ i → i < Mx 5 3 → Mx' 142 i = Mx 142 i) ∧ (Mx' 1 7 - 8 * a' + 3 ≤ Mx 1 7 - 8 * a ∧ Mx 1 7 ≤ Mx' 1 7)
  ∧ (b = 1 → (Mq' 6 13 = 0 → Mq 6 13 = 0 ∧ ∃ t, (w ≠ -1 → t = w + 1) ∧ EXP Mx' Mq' (Mq 6 61) (Mx 5 3) (Mx' 5 3) (Mq 6 104) (Mq' 6 104) t))
theorem nE_b [Inhabited gh_] {n : Nat} {t : Int} (h : n ≤ 12) : nE n t ≤ 42 := by unfold nE; split <;> lia
theorem QG_61 [Inhabited gh_] {M M' : mm_} (h : QG M M') : M' 6 61 = M 6 61 := h.2 61 (by decide) (by decide) (by decide) (by decide) (by decide) (by decide) (by decide) (by decide) (by decide) (by decide) (by decide)
theorem QG_tb [Inhabited gh_] {M M' : mm_} (h : QG M M') : tb_ M M' := ⟨h.1 171 (by decide), h.1 173 (by decide), h.1 182 (by decide), h.1 183 (by decide), h.1 184 (by decide)⟩
theorem WP_WR [Inhabited gh_] {n : Nat} {b F : Int} {Mx Mq Mx' Mq' : mm_} {a a' o w : Int} {fm l : List (Int × Int)} {cd y : List Int} (hn : n ≤ 12) (hb : b = 0 ∨ b = 1) (hXE : XE Mx 0 cd) (h104 : Mq 6 104 = 0 + (fm.length : Int)) (hF : stF Mq 0 fm) (hT : Tks Mx Mq) (h : WP n b F Mx Mq Mx' Mq' a a' o 0 fm 0 cd y l w) : WR b F Mx Mq Mx' Mq' a a' o w := by
  obtain ⟨h1, h2, h3, h4, h5, h6, h7, h8, h9, h10, h11, h12⟩ := h
  obtain ⟨s1, s2, s3⟩ := h6
  have s4 := stF_app l fm s3
  obtain ⟨e1, e2⟩ := h8
  have e3 := stX_app y cd e2
  have e4 : (y ++ cd).length = y.length + cd.length := List.length_append
  have x1 : Mx 5 3 = 0 + (cd.length : Int) := hXE.1
  refine ⟨h1, h2, h3, h4, ⟨by (clear hn hb hXE hF hT h1 h2 h3 h4 h7 h9 h10 h11 h12 s1 s2 s3 s4 e1 e2 e3 e4 x1; omega), by (clear hn hb hXE hF hT h1 h2 h3 h4 h9 h10 h11 h12 s1 s2 s3 s4 e1 e2 e3 e4 x1; lia)⟩, fun i a b => stF_ag fm hF s4.2 i a (by (clear hn hb hXE hF hT h1 h2 h3 h4 h7 h9 h10 h11 h12 s1 s2 s3 s4 e1 e2 e3 e4 x1 a; omega)), ⟨by (clear hn hb hXE h104 hF hT h1 h2 h3 h4 h5 h7 h9 h10 h11 h12 s1 s2 s3 s4 e2 e3; omega), by (clear hn hb hXE h104 hF hT h1 h2 h3 h4 h5 h7 h9 h11 h12 s1 s2 s3 s4 e2 e3; lia), fun hb0 => ?_⟩, fun i a b => stX_ag cd hXE.2 e3.2 i a (by (clear hn hb hXE h104 hF hT h1 h2 h3 h4 h5 h7 h9 h10 h11 h12 s1 s2 s3 s4 e1 e2 e3 e4 a; omega)), h11, fun hb1 hz => ?_⟩
  · have := h9 hb0; rw [this] at e1; simp only [List.nil_append] at e1; (clear hn hb hXE h104 hF hT h1 h2 h3 h4 h5 h7 h9 h10 h11 h12 s1 s2 s3 s4 e2 e3 e4 hb0 this; lia)
  · rcases h12 hb1 with ⟨t, g1, g2, g3, g4, g5, g6⟩ | g
    · have f1 : Mq' 6 13 = Mq 6 13 := congrArg Prod.fst g3
      refine ⟨by rw [← f1]; exact hz, t, g1, l, ⟨?_, ?_, ?_⟩, ?_, ?_, by omega, by (clear hn hb hXE hF hT h1 h2 h3 h4 h7 h9 h10 h11 h12 s1 s2 s3 s4 e1 e2 e3 e4 x1 hb1 hz g1 g2 g3 g4 g5 g6 f1; lia), by (clear hn hb hXE h104 hF hT h1 h2 h3 h4 h5 h7 h9 h10 h11 h12 s1 s2 s3 s4 e1 e2 e3 e4 hb1 hz g1 g2 g3 g4 g5 g6 f1; lia), g2, fun st hs => ?_⟩
      · rw [← s1]; congr 1; rw [List.length_append]; push_cast; (clear hn hb hXE hF hT h1 h2 h3 h4 h5 h7 h9 h10 h11 h12 s1 s2 s3 s4 e1 e2 e3 e4 x1 hb1 hz g1 g2 g3 g4 g5 g6 f1; lia)
      · rw [← s2]; congr 1; rw [List.length_append]; push_cast; omega
      · have := s4.1; rw [h104]; exact this
      · rw [er_t (QG_tb h3), ← g5, x1]; exact e3.1
      · rw [er_t (QG_tb h3), ← g5]; (clear hn hb hXE h104 hF hT h1 h2 h3 h4 h5 h7 h9 h10 h11 h12 s1 s2 s3 s4 e2 e3 hb1 hz g1 g2 g3 g4 g5 g6 f1; omega)
      · have nb := nE_b (n := n) (t := t) hn
        have := g6 st 64 (by (clear hn hb hXE h104 hF hT h1 h2 h3 h4 h5 h7 h9 h10 h11 h12 s1 s2 s3 s4 e1 e2 e3 e4 x1 hb1 hz g1 g2 g3 g4 g5 g6 f1; lia))
        refine ty_t ?_ (by rw [up_at]) _ _ _ this
        have := QG_tb h3
        unfold tb_ at *
        rw [up_ne (by decide), up_ne (by decide), up_ne (by decide), up_ne (by decide), up_ne (by decide)]
        exact this
    · exfalso
      have hg := h4.1
      unfold kk_ at g
      rw [if_pos hz] at g
      have h71 : Mx' 71 = Mx 71 := XF_70 h2 (by decide) (by decide) (by decide)
      have ga' : gd_ Mx a' := gd_c (XF_70 h2 (r := 70) (by decide) (by decide) (by decide)).symm hg
      have := tk_p hT ga'
      (clear hn hb hXE h104 hF hT h1 h2 h3 h4 h5 h7 h9 h10 h11 h12 s1 s2 s3 s4 e1 e2 e3 e4 x1 hb1 hz hg h71 ga'; lia)
section WB
variable {dq n : Nat} {b F : Int} {Mx Mq M : mm_} {a o w : Int} {K : Int → mm_ → Prop} {Kv : mm_ → Prop} {Qt : qt_}
theorem x_w [Inhabited gh_] {wq : Int} (hn : n ≤ 12) (ho : o = 12 - (n : Int)) (hw : -1 ≤ w ∧ w ≤ 2) (hq0 : -1 ≤ wq) (hwq : b = 1 → wq = w) (hT : Tks Mx Mq) (hV : VT Mx Mq) (hE : ER b F Mx Mq a o) (hf : 0 ≤ Mq 6 104 ∧ Mq 6 104 ≤ 1500 + a) (hS : b = 1 → ES (Mx 70) 0 o a ≠ none)
    (hK : ∀ Mx' Mq' a', WR b F Mx Mq Mx' Mq' a a' o w → ES (Mx 70) 0 o a = some a' → (∀ (Kq : Int → mm_ → Prop) (Qtq : qt_), Kq (Mq 6 104) Mq' → Tr_ wd0 pg0 (dq + 12) 270 [.inr (.inr 6), .inl (wq + 1)] Mq (ri_ Kq) Qtq) → Kv Mx')
    (hQ : b = 0 → ∀ Mx', XF Mx Mx' → (∀ (Kq : Int → mm_ → Prop) (Qtq : qt_), (∀ M', sp_ M' → in9_ M' → M' 6 13 = Mx' 1 4 → P14 Mx' M' → QF Mq M' → Kq (-1) M') → Tr_ wd0 pg0 (dq + 12) 270 [.inr (.inr 6), .inl (wq + 1)] Mq (ri_ Kq) Qtq) → Qt 8 Mx') :
    Tr_ wd0 pg0 (9 * n + 14) 145 [.inr (.inr 1), .inl w] Mx (rv_ Kv) Qt := by
  obtain ⟨fm, f1, f2⟩ := ex_F Mq 0 (Mq 6 104).toNat
  obtain ⟨cd, c1, c2⟩ := ex_X Mx 0 (Mx 5 3).toNat
  have h53 : 0 ≤ Mx 5 3 := (ER_st hE).1
  have hX : XE Mx 0 cd := ⟨by (clear hn ho hw hq0 hwq hT hV hE hf hS hK hQ f1 f2 c2; lia), c2⟩
  have h104 : Mq 6 104 = 0 + (fm.length : Int) := by (clear hn ho hw hq0 hwq hT hV hE hS hK hQ f2 c1 c2 h53 hX; omega)
  refine x_145 (dq := dq) hn ho hw hq0 hwq (f := 0) (fm := fm) (cc := 0) (cd := cd) ⟨hT, hV, hE, hX, h104, f2, by omega, by omega⟩ hS ?_ hQ
  intro Mx' Mq' a' y l hP hs hq
  exact hK Mx' Mq' a' (WP_WR hn hE.2.2.2.2.2.2.2.2.1 hX h104 f2 hT hP) hs hq
end WB
end T99_ex
section T100_jl
/-! X and Q at one token: small steps of both -/
def xaL : List Nat := [1, 5, 62, 63, 64, 65, 128, 129, 142]
def xaI : List Int := [3, 4, 5, 6, 7, 19, 21, 23]
def qaL : List Nat := [6, 175, 180, 187, 188, 189, 203, 204, 205, 206, 207, 208, 209, 210, 213, 214, 216, 217, 218, 219, 220, 221, 222, 223, 224, 225, 226, 227, 228, 229, 230, 231, 232, 233, 234]
def qaI : List Int := [12, 13, 14, 15, 75, 90, 102, 103, 104, 107, 108, 109, 112, 116, 118]
/-- what acts leave of X, of Q -/
def XA (M M' : mm_) : Prop := Fr_ xaL M M' ∧ (∀ i : Int, i ∉ xaI → M' 1 i = M 1 i) ∧ (∀ i : Int, i ≠ 3 → M' 5 i = M 5 i)
def QA (M M' : mm_) : Prop := Fr_ qaL M M' ∧ ∀ i : Int, i ∉ qaI → M' 6 i = M 6 i
theorem XA_rf [Inhabited gh_] {M : mm_} : XA M M := ⟨Fr_rf, fun _ _ => rfl, fun _ _ => rfl⟩
theorem XA_tr [Inhabited gh_] {M M1 M2 : mm_} (h1 : XA M M1) (h2 : XA M1 M2) : XA M M2 := ⟨Fr_tr h1.1 h2.1, fun i a => (h2.2.1 i a).trans (h1.2.1 i a), fun i a => (h2.2.2 i a).trans (h1.2.2 i a)⟩
theorem QA_rf [Inhabited gh_] {M : mm_} : QA M M := ⟨Fr_rf, fun _ _ => rfl⟩
theorem QA_tr [Inhabited gh_] {M M1 M2 : mm_} (h1 : QA M M1) (h2 : QA M1 M2) : QA M M2 := ⟨Fr_tr h1.1 h2.1, fun i a => (h2.2 i a).trans (h1.2 i a)⟩
theorem nm_i [Inhabited gh_] {i x : Int} {L : List Int} (h : i ∉ L) (hx : x ∈ L) : i ≠ x := fun e => h (by rw [e]; exact hx)
theorem XF_XA [Inhabited gh_] {M M' : mm_} (h : XF M M') : XA M M' := ⟨Fr_sub h.1 (by decide), fun i hi => h.2.1 i (nm_i hi (by decide)) (nm_i hi (by decide)) (nm_i hi (by decide)) (nm_i hi (by decide)) (nm_i hi (by decide)), h.2.2⟩
theorem QG_QA [Inhabited gh_] {M M' : mm_} (h : QG M M') : QA M M' := ⟨Fr_sub h.1 (by decide), fun i hi => h.2 i (nm_i hi (by decide)) (nm_i hi (by decide)) (nm_i hi (by decide)) (nm_i hi (by decide)) (nm_i hi (by decide)) (nm_i hi (by decide)) (nm_i hi (by decide)) (nm_i hi (by decide)) (nm_i hi (by decide)) (nm_i hi (by decide)) (nm_i hi (by decide))⟩
theorem QF_QA [Inhabited gh_] {M M' : mm_} (h : QF M M') : QA M M' := QG_QA (QG_QF h)
theorem QA_u6 [Inhabited gh_] {M : mm_} {i v : Int} (h : i ∈ qaI) : QA M (up_ M 6 i v) := ⟨Fr_up Fr_rf (by decide), fun j hj => by rw [up_off (nm_i hj h)]⟩
theorem QA_ur [Inhabited gh_] {M : mm_} {r : Nat} {i v : Int} (h : r ∈ qaL) (h6 : r ≠ 6) : QA M (up_ M r i v) := ⟨Fr_up Fr_rf h, fun j hj => by rw [up_ne (fun e => h6 e.symm)]⟩
theorem XA_u1 [Inhabited gh_] {M : mm_} {i v : Int} (h : i ∈ xaI) : XA M (up_ M 1 i v) := ⟨Fr_up Fr_rf (by decide), fun j hj => by rw [up_off (nm_i hj h)], fun i _ => by rw [up_ne (by decide)]⟩
theorem XA_ur [Inhabited gh_] {M : mm_} {r : Nat} {i v : Int} (h : r ∈ xaL) (h1 : r ≠ 1) (h5 : r ≠ 5) : XA M (up_ M r i v) := ⟨Fr_up Fr_rf h, fun j hj => by rw [up_ne (fun e => h1 e.symm)], fun j _ => by rw [up_ne (fun e => h5 e.symm)]⟩
theorem XA_r [Inhabited gh_] {M M' : mm_} (h : XA M M') {r : Nat} (hr : r ∉ xaL) : M' r = M r := h.1 r hr
theorem QA_r [Inhabited gh_] {M M' : mm_} (h : QA M M') {r : Nat} (hr : r ∉ qaL) : M' r = M r := h.1 r hr
theorem Tks_a [Inhabited gh_] {Mx Mq Mx' Mq' : mm_} (hx : XA Mx Mx') (hq : QA Mq Mq') (h : Tks Mx Mq) : Tks Mx' Mq' := by
  unfold Tks gd_ lk9_ at *
  rw [XA_r hx (r := 69) (by decide), XA_r hx (r := 70) (by decide), XA_r hx (r := 71) (by decide), XA_r hx (r := 72) (by decide), XA_r hx (r := 73) (by decide), QA_r hq (r := 149) (by decide), QA_r hq (r := 150) (by decide), QA_r hq (r := 151) (by decide)]
  exact h
theorem VT_a [Inhabited gh_] {Mx Mq Mx' Mq' : mm_} (hx : XA Mx Mx') (hq : QA Mq Mq') (h : VT Mx Mq) : VT Mx' Mq' := by
  unfold VT nm9_ gd_ at *
  rw [hx.2.1 2 (by decide), hx.2.1 18 (by decide), hq.2 61 (by decide), XA_r hx (r := 70) (by decide), XA_r hx (r := 60) (by decide), XA_r hx (r := 61) (by decide), XA_r hx (r := 124) (by decide), XA_r hx (r := 126) (by decide), XA_r hx (r := 130) (by decide), XA_r hx (r := 131) (by decide), XA_r hx (r := 132) (by decide), QA_r hq (r := 151) (by decide), QA_r hq (r := 171) (by decide), QA_r hq (r := 173) (by decide), QA_r hq (r := 177) (by decide), QA_r hq (r := 178) (by decide), QA_r hq (r := 182) (by decide), QA_r hq (r := 183) (by decide), QA_r hq (r := 184) (by decide)]
  exact h
/-- X's kind of a sign of Q -/
def skk_ (x : Int) : Int := if x < 200 then x + 200 else x - 146
theorem kq_s [Inhabited gh_] {k t v x : Int} (h : KQ k t v) (hx : 37 ≤ x ∧ x ≤ 93 ∨ 256 ≤ x ∧ x ≤ 261) : (t = 3 ∧ v = x) ↔ k = skk_ x := by
  unfold KQ at h; unfold skk_; split <;> omega
theorem kq_w [Inhabited gh_] {k t v x : Int} (h : KQ k t v) (hx : 0 ≤ x ∧ x < 48) : (t = 4 ∧ v = x) ↔ k = x := by
  unfold KQ at h; lia
theorem kq_n [Inhabited gh_] {k t v : Int} (h : KQ k t v) : t = 1 ↔ k = 100 := by unfold KQ at h; omega
theorem kq_u [Inhabited gh_] {k t v : Int} (h : KQ k t v) : t = 2 ↔ k = 101 := by unfold KQ at h; omega
section JL
variable {d : Nat} {b F : Int} {Mx Mq : mm_} {a o x : Int} {K : Int → mm_ → Prop} {Kv : mm_ → Prop} {Qt : qt_}
theorem ER_k [Inhabited gh_] (hT : Tks Mx Mq) (h : ER b F Mx Mq a o) : KQ (Mx 70 a) (Mq 149 (Mq 6 12)) (Mq 151 (Mq 6 12)) ∧ Mq 150 (Mq 6 12) = Mx 71 a ∧ in9_ Mq ∧ 0 ≤ Mq 6 12 ∧ (a < 1200 → Mq 6 12 < 1200) ∧ (a = 1200 → Mq 6 12 = 1200) := by
  have e := hT a h.1
  have e2 := ER_a h
  have e3 := h.2.2.1
  unfold in9_
  rw [e3]
  exact ⟨e.1, e.2.1.symm, ⟨by omega, by omega⟩, by omega, fun h => h, fun h => h⟩
theorem sp_bf [Inhabited gh_] {k : Int} (hE : ER b F Mx Mq a o) (hb : b = 0) (hk : 0 < k) {p : Int} : sp_ (bf_ Mq k p) ∧ in9_ (bf_ Mq k p) := ⟨bf_sp (by rw [hE.2.2.2.2.2.2.2.1]; exact hb) hk, by unfold in9_; rw [bf_6 (by decide) (by decide), hE.2.2.1]; have := ER_a hE; omega⟩
/-- Q's steps at the token -/
theorem j_228t [Inhabited gh_] (hT : Tks Mx Mq) (hE : ER b F Mx Mq a o) (hx : 0 ≤ x ∧ x < 48) (hk : Mx 70 a = x) (h12 : a < 1200) (h : K 1 (nx_ Mq)) : Tr_ wd0 pg0 (d + 3) 228 [.inr (.inr 6), .inl x] Mq (ri_ K) Qt := by
  obtain ⟨e1, e2, e3, e4, e5, e6⟩ := ER_k hT hE
  have := (kq_w e1 hx).mpr hk
  exact q_228t (ER_goq hE) e4 (e5 h12) this.1 this.2 h
theorem j_228r [Inhabited gh_] (hT : Tks Mx Mq) (hE : ER b F Mx Mq a o) (hb : b = 0) (hx : 0 ≤ x ∧ x < 48) (hk : Mx 70 a = x) (h12 : a = 1200) (h : K 1 (bf_ Mq 2 (Mx 71 a))) : Tr_ wd0 pg0 (d + 3) 228 [.inr (.inr 6), .inl x] Mq (ri_ K) Qt := by
  obtain ⟨e1, e2, e3, e4, e5, e6⟩ := ER_k hT hE
  have := (kq_w e1 hx).mpr hk
  exact q_228r (ER_ok hE hb) (e6 h12) this.1 this.2 (by rw [e2]; exact h)
theorem j_228f [Inhabited gh_] (hT : Tks Mx Mq) (hE : ER b F Mx Mq a o) (hx : 0 ≤ x ∧ x < 48) (hk : Mx 70 a ≠ x) (h : K 0 Mq) : Tr_ wd0 pg0 (d + 3) 228 [.inr (.inr 6), .inl x] Mq (ri_ K) Qt := by
  obtain ⟨e1, e2, e3, e4, e5, e6⟩ := ER_k hT hE
  exact q_228f (ER_goq hE) e3 (fun c => hk ((kq_w e1 hx).mp c)) h
theorem j_229t [Inhabited gh_] (hT : Tks Mx Mq) (hE : ER b F Mx Mq a o) (hx : 0 ≤ x ∧ x < 48) (hk : Mx 70 a = x) (h : K 1 Mq) : Tr_ wd0 pg0 (d + 1) 229 [.inr (.inr 6), .inl x] Mq (ri_ K) Qt := by
  obtain ⟨e1, e2, e3, e4, e5, e6⟩ := ER_k hT hE
  have := (kq_w e1 hx).mpr hk
  exact q_229t e3 this.1 this.2 h
theorem j_229f [Inhabited gh_] (hT : Tks Mx Mq) (hE : ER b F Mx Mq a o) (hx : 0 ≤ x ∧ x < 48) (hk : Mx 70 a ≠ x) (h : K 0 Mq) : Tr_ wd0 pg0 (d + 1) 229 [.inr (.inr 6), .inl x] Mq (ri_ K) Qt := by
  obtain ⟨e1, e2, e3, e4, e5, e6⟩ := ER_k hT hE
  exact q_229f e3 (fun c => hk ((kq_w e1 hx).mp c)) h
theorem j_237t [Inhabited gh_] (hT : Tks Mx Mq) (hE : ER b F Mx Mq a o) (hx : 37 ≤ x ∧ x ≤ 93 ∨ 256 ≤ x ∧ x ≤ 261) (hk : Mx 70 a = skk_ x) (h : K 1 Mq) : Tr_ wd0 pg0 (d + 1) 237 [.inr (.inr 6), .inl x] Mq (ri_ K) Qt := by
  obtain ⟨e1, e2, e3, e4, e5, e6⟩ := ER_k hT hE
  have := (kq_s e1 hx).mpr hk
  exact q_237t e3 this.1 this.2 h
theorem j_237f [Inhabited gh_] (hT : Tks Mx Mq) (hE : ER b F Mx Mq a o) (hx : 37 ≤ x ∧ x ≤ 93 ∨ 256 ≤ x ∧ x ≤ 261) (hk : Mx 70 a ≠ skk_ x) (h : K 0 Mq) : Tr_ wd0 pg0 (d + 1) 237 [.inr (.inr 6), .inl x] Mq (ri_ K) Qt := by
  obtain ⟨e1, e2, e3, e4, e5, e6⟩ := ER_k hT hE
  exact q_237f e3 (fun c => hk ((kq_s e1 hx).mp c)) h
theorem j_242t [Inhabited gh_] (hT : Tks Mx Mq) (hE : ER b F Mx Mq a o) (hx : 37 ≤ x ∧ x ≤ 93 ∨ 256 ≤ x ∧ x ≤ 261) (hk : Mx 70 a = skk_ x) (h12 : a < 1200) (h : K 1 (nx_ Mq)) : Tr_ wd0 pg0 (d + 3) 242 [.inr (.inr 6), .inl x] Mq (ri_ K) Qt := by
  obtain ⟨e1, e2, e3, e4, e5, e6⟩ := ER_k hT hE
  have := (kq_s e1 hx).mpr hk
  exact q_242t (ER_goq hE) e4 (e5 h12) this.1 this.2 h
theorem j_242r [Inhabited gh_] (hT : Tks Mx Mq) (hE : ER b F Mx Mq a o) (hb : b = 0) (hx : 37 ≤ x ∧ x ≤ 93 ∨ 256 ≤ x ∧ x ≤ 261) (hk : Mx 70 a = skk_ x) (h12 : a = 1200) (h : K 1 (bf_ Mq 2 (Mx 71 a))) : Tr_ wd0 pg0 (d + 3) 242 [.inr (.inr 6), .inl x] Mq (ri_ K) Qt := by
  obtain ⟨e1, e2, e3, e4, e5, e6⟩ := ER_k hT hE
  have := (kq_s e1 hx).mpr hk
  exact q_242r (ER_ok hE hb) (e6 h12) this.1 this.2 (by rw [e2]; exact h)
theorem j_242f [Inhabited gh_] (hT : Tks Mx Mq) (hE : ER b F Mx Mq a o) (hx : 37 ≤ x ∧ x ≤ 93 ∨ 256 ≤ x ∧ x ≤ 261) (hk : Mx 70 a ≠ skk_ x) (h : K 0 Mq) : Tr_ wd0 pg0 (d + 3) 242 [.inr (.inr 6), .inl x] Mq (ri_ K) Qt := by
  obtain ⟨e1, e2, e3, e4, e5, e6⟩ := ER_k hT hE
  exact q_242f (ER_goq hE) e3 (fun c => hk ((kq_s e1 hx).mp c)) h
theorem j_244t [Inhabited gh_] (hT : Tks Mx Mq) (hE : ER b F Mx Mq a o) (hx : 37 ≤ x ∧ x ≤ 93 ∨ 256 ≤ x ∧ x ≤ 261) (hk : Mx 70 a = skk_ x) (h12 : a < 1200) (h : Kv (nx_ Mq)) : Tr_ wd0 pg0 (d + 3) 244 [.inr (.inr 6), .inl x] Mq (rv_ Kv) Qt := by
  obtain ⟨e1, e2, e3, e4, e5, e6⟩ := ER_k hT hE
  have := (kq_s e1 hx).mpr hk
  exact q_244g (ER_goq hE) e4 (e5 h12) this.1 this.2 h
theorem j_244r [Inhabited gh_] (hT : Tks Mx Mq) (hE : ER b F Mx Mq a o) (hb : b = 0) (hx : 37 ≤ x ∧ x ≤ 93 ∨ 256 ≤ x ∧ x ≤ 261) (hk : Mx 70 a = skk_ x) (h12 : a = 1200) (h : Kv (bf_ Mq 2 (Mx 71 a))) : Tr_ wd0 pg0 (d + 3) 244 [.inr (.inr 6), .inl x] Mq (rv_ Kv) Qt := by
  obtain ⟨e1, e2, e3, e4, e5, e6⟩ := ER_k hT hE
  have := (kq_s e1 hx).mpr hk
  exact q_244r (ER_ok hE hb) (e6 h12) this.1 this.2 (by rw [e2]; exact h)
theorem j_244w [Inhabited gh_] (hT : Tks Mx Mq) (hE : ER b F Mx Mq a o) (hb : b = 0) (hx : 37 ≤ x ∧ x ≤ 93 ∨ 256 ≤ x ∧ x ≤ 261) (hk : Mx 70 a ≠ skk_ x) (h : Kv (bf_ Mq 1 (Mx 71 a))) : Tr_ wd0 pg0 (d + 3) 244 [.inr (.inr 6), .inl x] Mq (rv_ Kv) Qt := by
  obtain ⟨e1, e2, e3, e4, e5, e6⟩ := ER_k hT hE
  exact q_244w (ER_ok hE hb) e3 (fun c => hk ((kq_s e1 hx).mp c)) (by rw [e2]; exact h)
theorem j_250t [Inhabited gh_] (hT : Tks Mx Mq) (hE : ER b F Mx Mq a o) (hx : 0 ≤ x ∧ x < 48) (hk : Mx 70 a = x) (h12 : a < 1200) (h : Kv (nx_ Mq)) : Tr_ wd0 pg0 (d + 3) 250 [.inr (.inr 6), .inl x] Mq (rv_ Kv) Qt := by
  obtain ⟨e1, e2, e3, e4, e5, e6⟩ := ER_k hT hE
  have := (kq_w e1 hx).mpr hk
  exact q_250g (ER_goq hE) e4 (e5 h12) this.1 this.2 h
theorem j_250r [Inhabited gh_] (hT : Tks Mx Mq) (hE : ER b F Mx Mq a o) (hb : b = 0) (hx : 0 ≤ x ∧ x < 48) (hk : Mx 70 a = x) (h12 : a = 1200) (h : Kv (bf_ Mq 2 (Mx 71 a))) : Tr_ wd0 pg0 (d + 3) 250 [.inr (.inr 6), .inl x] Mq (rv_ Kv) Qt := by
  obtain ⟨e1, e2, e3, e4, e5, e6⟩ := ER_k hT hE
  have := (kq_w e1 hx).mpr hk
  exact q_250r (ER_ok hE hb) (e6 h12) this.1 this.2 (by rw [e2]; exact h)
theorem j_250w [Inhabited gh_] (hT : Tks Mx Mq) (hE : ER b F Mx Mq a o) (hb : b = 0) (hx : 0 ≤ x ∧ x < 48) (hk : Mx 70 a ≠ x) (h : Kv (bf_ Mq 1 (Mx 71 a))) : Tr_ wd0 pg0 (d + 3) 250 [.inr (.inr 6), .inl x] Mq (rv_ Kv) Qt := by
  obtain ⟨e1, e2, e3, e4, e5, e6⟩ := ER_k hT hE
  exact q_250w (ER_ok hE hb) e3 (fun c => hk ((kq_w e1 hx).mp c)) (by rw [e2]; exact h)
theorem j_233t [Inhabited gh_] (hT : Tks Mx Mq) (hE : ER b F Mx Mq a o) (hk : Mx 70 a = 100) (h12 : a < 1200) (h : K a (nx_ Mq)) : Tr_ wd0 pg0 (d + 3) 233 [.inr (.inr 6)] Mq (ri_ K) Qt := by
  obtain ⟨e1, e2, e3, e4, e5, e6⟩ := ER_k hT hE
  exact q_233g (ER_goq hE) e4 (e5 h12) ((kq_n e1).mpr hk) (by rw [hE.2.2.1]; exact h)
theorem j_233r [Inhabited gh_] (hT : Tks Mx Mq) (hE : ER b F Mx Mq a o) (hb : b = 0) (hk : Mx 70 a = 100) (h12 : a = 1200) (h : K a (bf_ Mq 2 (Mx 71 a))) : Tr_ wd0 pg0 (d + 3) 233 [.inr (.inr 6)] Mq (ri_ K) Qt := by
  obtain ⟨e1, e2, e3, e4, e5, e6⟩ := ER_k hT hE
  exact q_233r (ER_ok hE hb) (e6 h12) ((kq_n e1).mpr hk) (by rw [e2, hE.2.2.1]; exact h)
theorem j_233w [Inhabited gh_] (hT : Tks Mx Mq) (hE : ER b F Mx Mq a o) (hb : b = 0) (hk : Mx 70 a ≠ 100) (h : K a (bf_ Mq 1 (Mx 71 a))) : Tr_ wd0 pg0 (d + 3) 233 [.inr (.inr 6)] Mq (ri_ K) Qt := by
  obtain ⟨e1, e2, e3, e4, e5, e6⟩ := ER_k hT hE
  exact q_233w (ER_ok hE hb) e3 (fun c => hk ((kq_n e1).mp c)) (by rw [e2, hE.2.2.1]; exact h)
/-- X's steps at the token, with what may go wrong in the first pass alone -/
theorem y_103 [Inhabited gh_] (hE : ER b F Mx Mq a o) (ht : Mx 70 a = x → K 1 Mx) (hf : Mx 70 a ≠ x → K 0 Mx) : Tr_ wd0 pg0 (d + 1) 103 [.inr (.inr 1), .inl x] Mx (ri_ K) Qt := x_103 (ER_iX hE) (by rw [hE.2.1]; exact ht) (by rw [hE.2.1]; exact hf)
theorem y_117 [Inhabited gh_] (hE : ER b F Mx Mq a o) (hx : 0 ≤ x ∧ x < 200) (ht : Mx 70 a = skk_ x → K 1 Mx) (hf : Mx 70 a ≠ skk_ x → K 0 Mx) : Tr_ wd0 pg0 (d + 1) 117 [.inr (.inr 1), .inl x] Mx (ri_ K) Qt := by
  have e : skk_ x = 200 + x := by unfold skk_; rw [if_pos hx.2]; omega
  rw [e] at ht hf
  exact x_117 (ER_iX hE) hx.1 (by omega) (by rw [hE.2.1]; exact ht) (by rw [hE.2.1]; exact hf)
theorem gS_n [Inhabited gh_] {a : Int} (h : gS a ≠ none) : a < 1200 := by
  unfold gS at h; by_cases c : a < 1200
  · exact c
  · rw [if_neg c] at h; exact absurd rfl h
theorem tS_n [Inhabited gh_] {κ : Int → Int} {k a : Int} (h : tS κ k a ≠ none) : κ a = k ∧ a < 1200 := by
  unfold tS at h; by_cases c : κ a = k
  · rw [if_pos c] at h; exact ⟨c, gS_n h⟩
  · rw [if_neg c] at h; exact absurd rfl h
theorem gS_e [Inhabited gh_] {a : Int} (h : a < 1200) : gS a = some (a + 1) := by unfold gS; rw [if_pos h]
theorem tS_e [Inhabited gh_] {κ : Int → Int} {k a : Int} (h : κ a = k) (h1 : a < 1200) : tS κ k a = some (a + 1) := by unfold tS; rw [if_pos h, gS_e h1]
theorem y_105 [Inhabited gh_] (hE : ER b F Mx Mq a o) (hk : Mx 70 a ≠ 102 ∧ Mx 70 a ≠ 103) (hS : b = 1 → gS a ≠ none) (hg : a < 1200 → ER b F (nX_ Mx) (nx_ Mq) (a + 1) o → Kv (nX_ Mx)) (hr : b = 0 → a = 1200 → Qt 8 (flX_ Mx 2 a)) : Tr_ wd0 pg0 (d + 2) 105 [.inr (.inr 1)] Mx (rv_ Kv) Qt := x_105 (ER_iX hE) (fun h => by rw [hE.2.1] at h; exact hg h (ER_go hE h hk).1) (fun h => by
  rw [hE.2.1] at h ⊢
  rcases hE.2.2.2.2.2.2.2.2.1 with hb | hb
  · exact hr hb h
  · have := gS_n (hS hb); omega)
theorem y_121 [Inhabited gh_] (hE : ER b F Mx Mq a o) (hx : 37 ≤ x ∧ x ≤ 93) (hS : b = 1 → tS (Mx 70) (skk_ x) a ≠ none) (hg : Mx 70 a = skk_ x → a < 1200 → ER b F (nX_ Mx) (nx_ Mq) (a + 1) o → Kv (nX_ Mx)) (hr : b = 0 → Mx 70 a = skk_ x → a = 1200 → Qt 8 (flX_ Mx 2 a)) (hw : b = 0 → Mx 70 a ≠ skk_ x → Qt 8 (flX_ Mx 1 a)) : Tr_ wd0 pg0 (d + 3) 121 [.inr (.inr 1), .inl x] Mx (rv_ Kv) Qt := by
  have e : skk_ x = 200 + x := by unfold skk_; rw [if_pos (by omega)]; omega
  have e3 := hE.2.1
  have hb := hE.2.2.2.2.2.2.2.2.1
  refine x_121 (ER_iX hE) (by omega) (by omega) (fun h1 h2 => ?_) (fun h1 => ?_) (fun h1 h2 => ?_)
  · rw [e3] at h1 h2
    exact hg (by omega) h2 (ER_go hE h2 (by omega)).1
  · rw [e3] at h1 ⊢
    rcases hb with hb | hb
    · exact hw hb (by omega)
    · have := (tS_n (hS hb)).1; omega
  · rw [e3] at h1 h2 ⊢
    rcases hb with hb | hb
    · exact hr hb (by (clear hE hx hS hg hr hw e3 h2 hb; omega)) h2
    · have := (tS_n (hS hb)).2; (clear hE hx hS hg hr hw e e3 h1 hb; omega)
theorem y_108 [Inhabited gh_] (hE : ER b F Mx Mq a o) (hx : x ≠ 102 ∧ x ≠ 103) (hS : b = 1 → tS (Mx 70) x a ≠ none) (hg : Mx 70 a = x → a < 1200 → ER b F (nX_ Mx) (nx_ Mq) (a + 1) o → Kv (nX_ Mx)) (hr : b = 0 → Mx 70 a = x → a = 1200 → Qt 8 (flX_ Mx 2 a)) (hw : b = 0 → Mx 70 a ≠ x → Qt 8 (flX_ Mx 1 a)) : Tr_ wd0 pg0 (d + 3) 108 [.inr (.inr 1), .inl x] Mx (rv_ Kv) Qt := by
  have e3 := hE.2.1
  have hb := hE.2.2.2.2.2.2.2.2.1
  refine x_108 (ER_iX hE) (fun h1 h2 => ?_) (fun h1 => ?_) (fun h1 h2 => ?_)
  · rw [e3] at h1 h2
    exact hg h1 h2 (ER_go hE h2 (by rw [h1]; exact hx)).1
  · rw [e3] at h1 ⊢
    rcases hb with hb | hb
    · exact hw hb h1
    · exact absurd (tS_n (hS hb)).1 h1
  · rw [e3] at h1 h2 ⊢
    rcases hb with hb | hb
    · exact hr hb h1 h2
    · have := (tS_n (hS hb)).2; omega
theorem y_107 [Inhabited gh_] (hE : ER b F Mx Mq a o) (hS : b = 1 → tS (Mx 70) 100 a ≠ none) (hg : Mx 70 a = 100 → a < 1200 → ER b F (nX_ Mx) (nx_ Mq) (a + 1) o → K a (nX_ Mx)) (hr : b = 0 → Mx 70 a = 100 → a = 1200 → Qt 8 (flX_ Mx 2 a)) (hw : b = 0 → Mx 70 a ≠ 100 → Qt 8 (flX_ Mx 1 a)) : Tr_ wd0 pg0 (d + 4) 107 [.inr (.inr 1)] Mx (ri_ K) Qt := by
  have e3 := hE.2.1
  have hb := hE.2.2.2.2.2.2.2.2.1
  refine x_107 (ER_iX hE) (fun h1 h2 => ?_) (fun h1 => ?_) (fun h1 h2 => ?_)
  · rw [e3] at h1 h2 ⊢
    exact hg h1 h2 (ER_go hE h2 (by omega)).1
  · rw [e3] at h1 ⊢
    rcases hb with hb | hb
    · exact hw hb h1
    · exact absurd (tS_n (hS hb)).1 h1
  · rw [e3] at h1 h2 ⊢
    rcases hb with hb | hb
    · exact hr hb h1 h2
    · have := (tS_n (hS hb)).2; omega
end JL
end T100_jl
section T101_ac
/-! acts: what an act of X and an op of Q have to do with one another -/
def qcL : List Nat := [6, 203, 204, 205, 206, 207, 208, 209, 210, 227, 228, 229, 230, 231, 232, 233, 234]
def qcI : List Int := [12, 13, 14, 15, 75, 104, 107, 108, 109, 112, 116, 118]
def xcL : List Nat := [1, 5, 142]
def xcI : List Int := [3, 4, 5, 6, 7]
/-- what a single act leaves of X, of Q -/
def XC (M M' : mm_) : Prop := Fr_ xcL M M' ∧ (∀ i : Int, i ∉ xcI → M' 1 i = M 1 i) ∧ (∀ i : Int, i ≠ 3 → M' 5 i = M 5 i)
def QC (M M' : mm_) : Prop := Fr_ qcL M M' ∧ ∀ i : Int, i ∉ qcI → M' 6 i = M 6 i
theorem XC_rf [Inhabited gh_] {M : mm_} : XC M M := ⟨Fr_rf, fun _ _ => rfl, fun _ _ => rfl⟩
theorem XC_tr [Inhabited gh_] {M M1 M2 : mm_} (h1 : XC M M1) (h2 : XC M1 M2) : XC M M2 := ⟨Fr_tr h1.1 h2.1, fun i a => (h2.2.1 i a).trans (h1.2.1 i a), fun i a => (h2.2.2 i a).trans (h1.2.2 i a)⟩
theorem QC_rf [Inhabited gh_] {M : mm_} : QC M M := ⟨Fr_rf, fun _ _ => rfl⟩
theorem QC_tr [Inhabited gh_] {M M1 M2 : mm_} (h1 : QC M M1) (h2 : QC M1 M2) : QC M M2 := ⟨Fr_tr h1.1 h2.1, fun i a => (h2.2 i a).trans (h1.2 i a)⟩
theorem XF_XC [Inhabited gh_] {M M' : mm_} (h : XF M M') : XC M M' := ⟨Fr_sub h.1 (by decide), fun i hi => h.2.1 i (nm_i hi (by decide)) (nm_i hi (by decide)) (nm_i hi (by decide)) (nm_i hi (by decide)) (nm_i hi (by decide)), h.2.2⟩
theorem QG_QC [Inhabited gh_] {M M' : mm_} (h : QG M M') : QC M M' := ⟨Fr_sub h.1 (by decide), fun i hi => h.2 i (nm_i hi (by decide)) (nm_i hi (by decide)) (nm_i hi (by decide)) (nm_i hi (by decide)) (nm_i hi (by decide)) (nm_i hi (by decide)) (nm_i hi (by decide)) (nm_i hi (by decide)) (nm_i hi (by decide)) (nm_i hi (by decide)) (nm_i hi (by decide))⟩
theorem QF_QC [Inhabited gh_] {M M' : mm_} (h : QF M M') : QC M M' := QG_QC (QG_QF h)
theorem QC_u6 [Inhabited gh_] {M : mm_} {i v : Int} (h : i ∈ qcI) : QC M (up_ M 6 i v) := ⟨Fr_up Fr_rf (by decide), fun j hj => by rw [up_off (nm_i hj h)]⟩
theorem QC_ur [Inhabited gh_] {M : mm_} {r : Nat} {i v : Int} (h : r ∈ qcL) (h6 : r ≠ 6) : QC M (up_ M r i v) := ⟨Fr_up Fr_rf h, fun j hj => by rw [up_ne (fun e => h6 e.symm)]⟩
theorem XC_u1 [Inhabited gh_] {M : mm_} {i v : Int} (h : i ∈ xcI) : XC M (up_ M 1 i v) := ⟨Fr_up Fr_rf (by decide), fun j hj => by rw [up_off (nm_i hj h)], fun i _ => by rw [up_ne (by decide)]⟩
theorem XC_XA [Inhabited gh_] {M M' : mm_} (h : XC M M') : XA M M' := ⟨Fr_sub h.1 (by decide), fun i hi => h.2.1 i (fun e => hi (by revert e; unfold xcI xaI; simp only [List.mem_cons, List.not_mem_nil, or_false]; (clear h hi; lia))), h.2.2⟩
theorem QC_QA [Inhabited gh_] {M M' : mm_} (h : QC M M') : QA M M' := ⟨Fr_sub h.1 (by decide), fun i hi => h.2 i (fun e => hi (by revert e; unfold qcI qaI; simp only [List.mem_cons, List.not_mem_nil, or_false]; (clear h hi; lia)))⟩
theorem QC_tb [Inhabited gh_] {M M' : mm_} (h : QC M M') : tb_ M M' := ⟨h.1 171 (by decide), h.1 173 (by decide), h.1 182 (by decide), h.1 183 (by decide), h.1 184 (by decide)⟩
/-- emit -/
def em_ (M : mm_) (w p : Int) : mm_ := up_ (up_ (up_ (up_ (up_ (up_ (up_ (up_ M 203 (M 6 75) w) 204 (M 6 75) p) 205 (M 6 75) (-1)) 206 (M 6 75) (-1)) 207 (M 6 75) (-1)) 208 (M 6 75) (-1)) 210 (M 6 75) 0) 6 75 (M 6 75 + 1)
section EM
variable {d : Nat} {M : mm_} {w p : Int} {K : Int → mm_ → Prop} {Qt : qt_}
theorem q_266 [Inhabited gh_] (h0 : 0 ≤ M 6 75) (h1 : M 6 75 < 1300) (h : K (M 6 75) (em_ M w p)) : Tr_ wd0 pg0 (d + 1) 266 [.inr (.inr 6), .inl w, .inl p] M (ri_ K) Qt := t_266 fun V hV hW => b_266_0 (Tr_mono _) hV hW w p M (by
  rw [w32_id (by (clear h hV hW; lia)) (by omega)]
  exact ⟨⟨h0, h1⟩, ⟨h0, h1⟩, ⟨h0, h1⟩, ⟨h0, h1⟩, ⟨h0, h1⟩, ⟨h0, h1⟩, ⟨h0, h1⟩, ri_i h⟩)
theorem em_QC [Inhabited gh_] : QC M (em_ M w p) := by
  unfold em_
  exact QC_tr (QC_tr (QC_tr (QC_tr (QC_tr (QC_tr (QC_tr (QC_ur (by decide) (by decide)) (QC_ur (by decide) (by decide))) (QC_ur (by decide) (by decide))) (QC_ur (by decide) (by decide))) (QC_ur (by decide) (by decide))) (QC_ur (by decide) (by decide))) (QC_ur (by decide) (by decide))) (QC_u6 (by decide))
theorem em_6 [Inhabited gh_] {i : Int} (h : i ≠ 75) : em_ M w p 6 i = M 6 i := by unfold em_; rw [up_off h, up_ne (by decide), up_ne (by decide), up_ne (by decide), up_ne (by decide), up_ne (by decide), up_ne (by decide), up_ne (by decide)]
theorem em_75 [Inhabited gh_] : em_ M w p 6 75 = M 6 75 + 1 := by unfold em_; rw [up_at]
theorem em_r [Inhabited gh_] {r : Nat} (h : r < 203 ∨ 210 < r) (h6 : r ≠ 6) : em_ M w p r = M r := by unfold em_; rw [up_ne h6, up_ne (by omega), up_ne (by omega), up_ne (by lia), up_ne (by omega), up_ne (by omega), up_ne (by omega), up_ne (by omega)]
theorem em_209 [Inhabited gh_] : em_ M w p 209 = M 209 := by unfold em_; rw [up_ne (by decide), up_ne (by decide), up_ne (by decide), up_ne (by decide), up_ne (by decide), up_ne (by decide), up_ne (by decide), up_ne (by decide)]
theorem up_of2 [Inhabited gh_] {M : mm_} {r r' : Nat} {i j v : Int} (h : i ≠ j) : up_ M r' j v r i = M r i := by
  by_cases c : r = r'
  · rw [c, up_off h]
  · rw [up_ne c]
theorem em_o [Inhabited gh_] {r : Nat} {i : Int} (h6 : r ≠ 6) (h : i ≠ M 6 75) : em_ M w p r i = M r i := by unfold em_; rw [up_ne h6, up_of2 h, up_of2 h, up_of2 h, up_of2 h, up_of2 h, up_of2 h, up_of2 h]
theorem em_203 [Inhabited gh_] : em_ M w p 203 (M 6 75) = w := by unfold em_; rw [up_ne (by decide), up_ne (by decide), up_ne (by decide), up_ne (by decide), up_ne (by decide), up_ne (by decide), up_ne (by decide), up_at]
theorem em_204 [Inhabited gh_] : em_ M w p 204 (M 6 75) = p := by unfold em_; rw [up_ne (by decide), up_ne (by decide), up_ne (by decide), up_ne (by decide), up_ne (by decide), up_ne (by decide), up_at]
theorem em_205 [Inhabited gh_] : em_ M w p 205 (M 6 75) = -1 := by unfold em_; rw [up_ne (by decide), up_ne (by decide), up_ne (by decide), up_ne (by decide), up_ne (by decide), up_at]
theorem em_206 [Inhabited gh_] : em_ M w p 206 (M 6 75) = -1 := by unfold em_; rw [up_ne (by decide), up_ne (by decide), up_ne (by decide), up_ne (by decide), up_at]
theorem em_207 [Inhabited gh_] : em_ M w p 207 (M 6 75) = -1 := by unfold em_; rw [up_ne (by decide), up_ne (by decide), up_ne (by decide), up_at]
theorem em_208 [Inhabited gh_] : em_ M w p 208 (M 6 75) = -1 := by unfold em_; rw [up_ne (by decide), up_ne (by decide), up_at]
theorem em_210 [Inhabited gh_] : em_ M w p 210 (M 6 75) = 0 := by unfold em_; rw [up_ne (by decide), up_at]
end EM
/-- so many values of an op, their sorts told by σ -/
def VAL (Mx Mq : mm_) (T fe : Int) (σ : Int → Int) (k : Int) : Nat → Int → Int → Prop
  | 0, c, c' => c' = c
  | n + 1, c, c' => ∃ c1, VAL Mx Mq T fe σ k n c c1 ∧ EXP Mx Mq T c1 c' (Mq 209 (3 * k + n)) fe (σ n)
/-- an op k of type T and X's steps from c up to c' -/
def OPC (Mx Mq : mm_) (T k c c' fe : Int) : Prop :=
  (Mq 203 k = 1 ∧ (8 * T ≤ Mq 205 k ∧ Mq 205 k < 8 * T + Mq 171 T) ∧ ∃ c1, Mx 142 (c1 + 1) = Mq 184 (Mq 205 k) ∧ c' = c1 + 2 ∧
    ((Mq 206 k = -1 ∧ Mq 183 (Mq 205 k) = 0 ∧ EXP Mx Mq T c c1 (Mq 207 k) fe (Mq 182 (Mq 205 k)) ∧ Mx 142 c1 = 31)
     ∨ (∃ c0, 0 < Mq 183 (Mq 205 k) ∧ EXP Mx Mq T c c0 (Mq 206 k) fe 1 ∧ Mx 142 c0 = 45 ∧ Mx 142 (c0 + 1) = Mq 183 (Mq 205 k) ∧ EXP Mx Mq T (c0 + 2) c1 (Mq 207 k) fe (Mq 182 (Mq 205 k)) ∧ Mx 142 c1 = 32)))
  ∨ (Mq 203 k = 2 ∧ (0 ≤ Mq 205 k ∧ Mq 205 k < Mq 6 17) ∧ 0 ≤ Mq 210 k ∧ Mq 210 k ≤ 3 ∧ Mq 210 k = Mq 156 (Mq 205 k) ∧ ∃ c1 c2 m, VAL Mx Mq T fe (fun i => Mq 157 (3 * Mq 205 k + i)) k (Mq 210 k).toNat c c1
    ∧ ((m = 0 ∧ c2 = c1 ∧ Mq 206 k = -1 ∧ Mq 207 k = -1) ∨ (m = 1 ∧ Mq 207 k = -1 ∧ EXP Mx Mq T c1 c2 (Mq 206 k) fe 3) ∨ (m = 2 ∧ c2 = c1 ∧ Mq 206 k = -1 ∧ 0 ≤ Mq 207 k ∧ Mq 207 k < Mq 6 18))
    ∧ Mx 142 c2 = 33 ∧ Mx 142 (c2 + 1) = Mq 205 k ∧ Mx 142 (c2 + 2) = Mq 210 k ∧ Mx 142 (c2 + 3) = m ∧ Mx 142 (c2 + 4) = Mq 207 k ∧ c' = c2 + 5)
  ∨ (Mq 203 k = 3 ∧ (0 ≤ Mq 205 k ∧ Mq 205 k < Mq 173 T) ∧ ∃ c1, EXP Mx Mq T c c1 (Mq 206 k) fe 1 ∧ Mx 142 c1 = 34 ∧ Mx 142 (c1 + 1) = Mq 205 k ∧ c' = c1 + 2)
  ∨ (Mq 203 k = 4 ∧ (0 ≤ Mq 205 k ∧ Mq 205 k < Mq 173 T) ∧ Mx 142 c = 35 ∧ Mx 142 (c + 1) = Mq 205 k ∧ c' = c + 2)
  ∨ (Mq 203 k = 5 ∧ (0 ≤ Mq 205 k ∧ Mq 205 k < Mq 6 19) ∧ 0 ≤ Mq 210 k ∧ Mq 210 k ≤ 3 ∧ Mq 210 k = Mq 170 (Mq 205 k) ∧ ∃ c1, VAL Mx Mq T fe (fun i => Mq 182 (8 * Mq 205 k + i)) k (Mq 210 k).toNat c c1 ∧ Mx 142 c1 = 36 ∧ Mx 142 (c1 + 1) = Mq 205 k ∧ Mx 142 (c1 + 2) = Mq 210 k ∧ c' = c1 + 3)
  ∨ (Mq 203 k = 8 ∧ ((Mq 205 k = -1 ∧ Mx 142 c = 40 ∧ c' = c + 1) ∨ (0 ≤ Mq 205 k ∧ Mq 205 k < Mq 174 T ∧ Mx 142 c = 39 ∧ Mx 142 (c + 1) = Mq 205 k ∧ c' = c + 2)))
  ∨ (Mq 203 k = 9 ∧ Mx 142 c = 41 ∧ c' = c + 1)
  ∨ (Mq 203 k = 10 ∧ (0 ≤ Mq 205 k ∧ Mq 205 k < Mq 175 T) ∧ Mx 142 c = 42 ∧ Mx 142 (c + 1) = 10 * T + Mq 205 k ∧ c' = c + 2)
/-- X and Q stand before an act -/
def TA [Inhabited gh_] (b F : Int) (Mx Mq : mm_) (a o : Int) : Prop := Tks Mx Mq ∧ VT Mx Mq ∧ ER b F Mx Mq a o ∧ (0 ≤ Mq 6 75 ∧ Mq 6 75 ≤ a) ∧ (0 ≤ Mq 6 104 ∧ Mq 6 104 ≤ 2 * a) ∧ Mx 5 3 ≤ 9 * a + 500
/-- both are through an act, with one op -/
def AR [Inhabited gh_] (b F : Int) (Mx Mq Mx' Mq' : mm_) (a a' o w v : Int) : Prop :=
  a + 2 ≤ a' ∧ XC Mx Mx' ∧ QC Mq Mq' ∧ ER b F Mx' Mq' a' o ∧ Mq' 6 75 = Mq 6 75 + 1 ∧ (Mq 6 104 ≤ Mq' 6 104 ∧ Mq' 6 104 + 2 * a ≤ Mq 6 104 + 2 * a') ∧ (∀ i, 0 ≤ i → i < Mq 6 104 → Mq' 227 i = Mq 227 i ∧ Mq' 228 i = Mq 228 i)
  ∧ (Mx 5 3 ≤ Mx' 5 3 ∧ Mx' 5 3 + 9 * a + 2 ≤ Mx 5 3 + 9 * a' ∧ (b = 0 → Mx' 5 3 = Mx 5 3)) ∧ (∀ i, 0 ≤ i → i < Mx 5 3 → Mx' 142 i = Mx 142 i)
  ∧ (∀ r i, r ∈ [203, 204, 205, 206, 207, 208, 210] → 0 ≤ i → i < Mq 6 75 → Mq' r i = Mq r i) ∧ (∀ i, 0 ≤ i → i < 3 * Mq 6 75 → Mq' 209 i = Mq 209 i)
  ∧ (Mx' 1 7 - 8 * a' + 3 ≤ Mx 1 7 - 8 * a ∧ Mx 1 7 ≤ Mx' 1 7) ∧ (Mq' 204 (Mq 6 75) = Mx 71 a ∧ Mq' 203 (Mq 6 75) = w ∧ (w = 2 ∨ w = 5 → Mq' 205 (Mq 6 75) = v))
  ∧ (b = 1 → Mq' 6 13 = 0 → Mq 6 13 = 0 ∧ OPC Mx' Mq' (Mq 6 61) (Mq 6 75) (Mx 5 3) (Mx' 5 3) (Mq' 6 104))
/-- Q has stopped with X's fault -/
def SQ [Inhabited gh_] (Mx' M M' : mm_) : Prop := sp_ M' ∧ in9_ M' ∧ M' 6 13 = Mx' 1 4 ∧ P14 Mx' M' ∧ QA M M'
theorem SQ_bf [Inhabited gh_] {b F : Int} {Mx Mq M : mm_} {a o k : Int} (hE : ER b F Mx Mq a o) (hb : b = 0) (hk : 0 < k) (hq : QA M Mq) : SQ (flX_ Mx k a) M (bf_ Mq k (Mx 71 a)) := by
  have := sp_bf (p := Mx 71 a) hE hb hk
  exact ⟨this.1, this.2, by rw [bf_13, fl_4], ⟨by rw [bf_14, fl_5], fl_b7 hE⟩, QA_tr hq (QF_QA bf_QF)⟩
end T101_ac

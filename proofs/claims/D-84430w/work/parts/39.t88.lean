section T88_er
/-! a prefix is through, with the memory that it leaves -/
def pM1_ (M : mm_) : mm_ := up_ (up_ M 6 112 (M 6 112 - 1)) 6 15 (M 6 15 - 1)
def pM_ (M : mm_) (s tk : Int) (x : Int × Int × Int) (L : Int) : mm_ := w3_ (aM_ (pu_ (pM1_ M) s 0) x (pw_ s)) L (pw_ s) (M 150 tk) (pb_ x (pw_ s))
section QE
variable {d : Nat} {M : mm_} {sg : List (Int × Int)} {ws : List (Int × Int × Int)} {cm : List Int} {f : Int} {fm : List (Int × Int)} {Qr : qr_} {Qt : qt_} {V : vv_}
theorem w3_r [Inhabited gh_] {i s p b : Int} {r : Nat} (h1 : r ≠ 231) (h2 : r ≠ 232) (h3 : r ≠ 233) : w3_ M i s p b r = M r := by unfold w3_; rw [up_ne h3, up_ne h2, up_ne h1]
theorem w3_QF [Inhabited gh_] {i s p b : Int} : QF M (w3_ M i s p b) := ⟨by unfold w3_; exact Fr_up (Fr_up (Fr_up Fr_rf (by decide)) (by decide)) (by decide), fun i _ _ _ _ _ _ _ _ => by rw [w3_r (by decide) (by decide) (by decide)]⟩
theorem pM_QE [Inhabited gh_] {s tk : Int} {x : Int × Int × Int} (hE : QE M ((s, tk) :: sg) (x :: ws) cm f fm) : QE (pM_ M s tk x ws.length) sg ((pw_ s, M 150 tk, pb_ x (pw_ s)) :: ws) cm f ((s, 0) :: fm) :=
  w3_QE (aM_QE (pu_QE (QE_sc (pS_QE hE) (by decide) (by decide) (by decide) (by decide)))) rfl
theorem pM1_6 [Inhabited gh_] {i : Int} (h1 : i ≠ 15) (h2 : i ≠ 112) : pM1_ M 6 i = M 6 i := by unfold pM1_; rw [up_off h1, up_off h2]
theorem pM1_r [Inhabited gh_] {r : Nat} (h : r ≠ 6) : pM1_ M r = M r := by unfold pM1_; rw [up_ne h, up_ne h]
theorem pM_QF [Inhabited gh_] {s tk L : Int} {x : Int × Int × Int} : QF M (pM_ M s tk x L) := QF_tr (QF_tr (QF_tr ⟨by unfold pM1_; exact Fr_up (Fr_up Fr_rf (by decide)) (by decide), fun i _ _ _ a _ b _ _ => pM1_6 a b⟩ pu_QF) aM_QF) w3_QF
theorem pM_6 [Inhabited gh_] {s tk L i : Int} {x : Int × Int × Int} (h1 : i ≠ 13) (h2 : i ≠ 14) (h3 : i ≠ 15) (h4 : i ≠ 104) (h5 : i ≠ 112) : pM_ M s tk x L 6 i = M 6 i := by unfold pM_; rw [w3_r (by decide) (by decide) (by decide), aM_6 h1 h2, pu_6 h4, pM1_6 h3 h5]
theorem pM_15 [Inhabited gh_] {s tk L : Int} {x : Int × Int × Int} : pM_ M s tk x L 6 15 = M 6 15 - 1 := by unfold pM_; rw [w3_r (by decide) (by decide) (by decide), aM_6 (by decide) (by decide), pu_6 (by decide)]; unfold pM1_; rw [up_at]
theorem pM_fq [Inhabited gh_] {s tk L : Int} {x : Int × Int × Int} : fqq_ (pM_ M s tk x L) = aq_ (M 6 16) (fqq_ M) x (pw_ s) := by
  have e1 : fqq_ (pM_ M s tk x L) = fqq_ (aM_ (pu_ (pM1_ M) s 0) x (pw_ s)) := by unfold fqq_ pM_; rw [w3_r (by decide) (by decide) (by decide)]
  have e2 : fqq_ (pu_ (pM1_ M) s 0) = fqq_ M := by unfold fqq_; rw [pu_6 (by decide), pu_6 (by decide), pM1_6 (by decide) (by decide), pM1_6 (by decide) (by decide)]
  rw [e1, aM_fq, e2, pu_6 (by decide), pM1_6 (by decide) (by decide)]
theorem m_279_147 [Inhabited gh_] (hV : Cl_ wd0 (Tr_ wd0 pg0 d) V Qr Qt m_279) (hW : Wk_ V) {a1 b tk w L S : Int} {M0 : mm_} (hM : M = up_ M0 231 L w) (hL0 : 0 ≤ L) (hl : L < 1202) (hb : b = 0 ∨ b = 1) (hS0 : 0 ≤ S) (hs : S < 1240) (h112 : M0 6 112 = S) (htk : M0 230 S = tk) (ht0 : 0 ≤ tk) (ht1 : tk < 1202)
    (h : V 0 [rr 6, none, none, none] [] (w3_ M0 L w (M0 150 tk) b)) : V 147 [rr 6, ii a1, ii L, ii b] [] M := by
  have e112 : M 6 112 = S := by rw [hM, up_ne (by decide)]; exact h112
  have e230 : M 230 S = tk := by rw [hM, up_ne (by decide)]; exact htk
  refine b_279_147 (Tr_mono _) hV hW a1 _ b M ?_
  rw [e112, e230]
  refine ⟨by omega, by omega, by omega, ⟨by omega, hb⟩, ?_⟩
  have e150 : M 150 tk = M0 150 tk := by rw [hM, up_ne (by decide)]
  rw [e150, hM]; exact h
theorem m_279_0 [Inhabited gh_] (hV : Cl_ wd0 (Tr_ wd0 pg0 (d + 2)) V Qr Qt m_279) (hW : Wk_ V) {s tk : Int} {x : Int × Int × Int} (hE : QE M ((s, tk) :: sg) (x :: ws) cm f fm) (hs13 : s = 13 ∨ s = 14) (hl : (ws.length : Int) < 1202) (hs : (sg.length : Int) < 1240) (hf0 : 0 ≤ f) (hf : f + fm.length < 3000) (bx : x.2.2 = 0 ∨ x.2.2 = 1) (ht0 : 0 ≤ tk) (ht1 : tk < 1202) (ho : 0 < M 6 15) (ho2 : M 6 15 ≤ 13)
    (h : V 0 [rr 6, none, none, none] [] (pM_ M s tk x ws.length)) : V 0 [rr 6, none, none, none] [] M := by
  have e112 : M 6 112 = (sg.length : Int) + 1 := by rw [hE.1]; simp only [List.length_cons]; push_cast; omega
  have e229 : M 229 (sg.length : Int) = s := hE.2.1.1
  have e230 : M 230 (sg.length : Int) = tk := hE.2.1.2.1
  have em : M 6 112 - 1 = (sg.length : Int) := by omega
  have w1 : w32 (M 6 112 - 1) = (sg.length : Int) := by rw [w32_id (by omega) (by omega)]; omega
  have w2 : w32 (M 6 15 - 1) = M 6 15 - 1 := w32_id (by omega) (by omega)
  have eM1 : up_ (up_ M 6 112 (sg.length : Int)) 6 15 (M 6 15 - 1) = pM1_ M := by unfold pM1_; rw [em]
  have hE1 : QE (pM1_ M) sg (x :: ws) cm f fm := QE_sc (pS_QE hE) (by decide) (by decide) (by decide) (by decide)
  have i1 : pM1_ M 6 112 = (sg.length : Int) := hE1.1
  have go : ∀ a1 : Int, (a1 = 1 ↔ s = 13) → (a1 = 0 ∨ a1 = 1) → V 79 [rr 6, ii a1, none, none] [] (pM1_ M) := by
    intro a1 ha hab
    refine b_279_79 (Tr_mono _) hV hW a1 _ ?_
    rw [i1, pM1_r (by decide), e229]
    refine ⟨by omega, q_277 (by rw [hE1.2.2.2.2.2.2.1]; omega) (by rw [hE1.2.2.2.2.2.2.1]; omega) ?_⟩
    have hE2 := pu_QE (x := s) (y := 0) hE1
    unfold pM_ at h
    generalize hM2 : pu_ (pM1_ M) s 0 = M2 at hE2 h ⊢
    have r2 : ∀ r : Nat, r ≠ 6 → r ≠ 227 → r ≠ 228 → M2 r = M r := fun r a b c => by rw [← hM2, pu_r a b c, pM1_r a]
    have e116 : M2 6 116 = (ws.length : Int) + 1 := by rw [hE2.2.2.1]; simp only [List.length_cons]; push_cast; omega
    have w3 : w32 (M2 6 116 - 1) = (ws.length : Int) := by rw [w32_id (by omega) (by omega)]; omega
    rw [w3]
    have ex1 : M2 231 (ws.length : Int) = x.1 := hE2.2.2.2.1.1
    have ex2 : M2 232 (ws.length : Int) = x.2.1 := hE2.2.2.2.1.2.1
    have ex3 : M2 233 (ws.length : Int) = x.2.2 := hE2.2.2.2.1.2.2.1
    rw [ex3]
    refine ⟨by omega, fun _ => ?_⟩
    have e230' : M2 230 (sg.length : Int) = tk := by rw [r2 230 (by decide) (by decide) (by decide)]; exact e230
    have e112' : M2 6 112 = (sg.length : Int) := hE2.1
    have e150' : M2 150 = M 150 := r2 150 (by decide) (by decide) (by decide)
    have fin : ∀ (b w : Int), (b = 0 ∨ b = 1) → w = pw_ s → b = pb_ x (pw_ s) → V 147 [rr 6, ii a1, ii (ws.length : Int), ii b] [] (up_ (aM_ M2 x (pw_ s)) 231 (ws.length : Int) w) := by
      intro b w hb hw hb2
      refine m_279_147 hV hW (S := sg.length) rfl (by omega) hl hb (by omega) hs (by rw [aM_6 (by decide) (by decide)]; exact e112') (by rw [aM_r (by decide)]; exact e230') ht0 ht1 ?_
      rw [aM_r (by decide), e150', hw, hb2]; exact h
    have hw9 : (a1 = 0 → pw_ s = 2) ∧ (a1 = 1 → pw_ s = 1) := by
      unfold pw_
      refine ⟨fun h9 => ?_, fun h9 => ?_⟩
      · rw [if_neg (fun h8 => by have := ha.mpr h8; omega)]
      · rw [if_pos (ha.mp h9)]
    by_cases c1 : x.2.2 = 0
    · rw [if_pos c1]
      have ask : (ab_ x (pw_ s) = 0 → 0 = pb_ x (pw_ s)) ∧ (ab_ x (pw_ s) ≠ 0 → 1 = pb_ x (pw_ s)) := by
        unfold ab_ pb_
        by_cases h9 : x.1 = pw_ s
        · rw [if_neg (fun h8 => h8.2 h9), if_pos ⟨c1, h9⟩]; exact ⟨fun _ => rfl, fun h8 => absurd rfl h8⟩
        · rw [if_pos ⟨c1, h9⟩, if_neg (fun h8 => h9 h8.2)]; exact ⟨fun h8 => absurd h8 (by decide), fun _ => rfl⟩
      by_cases c2 : a1 = 0
      · rw [if_pos c2]
        have hw := hw9.1 c2
        rw [hw] at ask fin
        refine q_280 (x := x) (by omega) (by omega) ex1 ex2 ex3 ?_
        by_cases c3 : ab_ x 2 = 0
        · rw [if_pos c3, if_pos c2]
          exact ⟨by omega, fin 0 2 (.inl rfl) rfl (ask.1 c3)⟩
        · rw [if_neg c3, if_pos c2]
          exact ⟨by omega, fin 1 2 (.inr rfl) rfl (ask.2 c3)⟩
      · rw [if_neg c2]
        have hw := hw9.2 (by omega)
        rw [hw] at ask fin
        refine q_280 (x := x) (by omega) (by omega) ex1 ex2 ex3 ?_
        by_cases c3 : ab_ x 1 = 0
        · rw [if_pos c3, if_neg c2]
          exact ⟨by omega, fin 0 1 (.inl rfl) rfl (ask.1 c3)⟩
        · rw [if_neg c3, if_neg c2]
          exact ⟨by omega, fin 1 1 (.inr rfl) rfl (ask.2 c3)⟩
    · rw [if_neg c1]
      have hpb : 1 = pb_ x (pw_ s) := by unfold pb_; rw [if_neg (fun h9 => c1 h9.1)]
      have eM : aM_ M2 x (pw_ s) = M2 := by unfold aM_; rw [if_neg (fun h9 => c1 h9.1)]
      rw [eM] at fin
      by_cases c2 : a1 = 0
      · rw [if_pos c2]
        exact ⟨by omega, fin 1 2 (.inr rfl) (hw9.1 c2).symm hpb⟩
      · rw [if_neg c2]
        exact ⟨by omega, fin 1 1 (.inr rfl) (hw9.2 (by omega)).symm hpb⟩
  have at39 : V 39 [rr 6, none, none, none] [] M := by
    refine b_279_39 (Tr_mono _) hV hW M ?_
    rw [w1, w2, e229, eM1]
    refine ⟨by omega, ?_⟩
    by_cases h13 : s = 13
    · rw [if_pos h13]; exact go 1 ⟨fun _ => h13, fun _ => rfl⟩ (.inr rfl)
    · rw [if_neg h13]; exact go 0 ⟨fun h9 => absurd h9 (by decide), fun h9 => absurd h9 h13⟩ (.inl rfl)
  refine b_279_0 (Tr_mono _) hV hW M ?_
  rw [if_neg (by omega), w1, e229]
  refine ⟨by omega, ?_⟩
  by_cases h13 : s = 13
  · rw [if_pos h13]; exact at39
  · rw [if_neg h13, if_pos (by omega)]
    exact ⟨by omega, at39⟩
/-- a call of prefixes that begins with one -/
theorem Ex9_p [Inhabited gh_] {dq : Nat} {M' : mm_} {s tk : Int} {x : Int × Int × Int} (hE : QE M ((s, tk) :: sg) (x :: ws) cm f fm) (hs13 : s = 13 ∨ s = 14) (hl : (ws.length : Int) < 1202) (hs : (sg.length : Int) < 1240) (hf0 : 0 ≤ f) (hf : f + fm.length < 3000) (bx : x.2.2 = 0 ∨ x.2.2 = 1) (ht0 : 0 ≤ tk) (ht1 : tk < 1202) (ho : 0 < M 6 15) (ho2 : M 6 15 ≤ 13) (h : Ex9 dq (pM_ M s tk x ws.length) M') : Ex9 dq M M' := by
  intro Kv Qt hk
  refine t_279 fun V hV hW => m_279_0 (d := dq + 4) hV hW hE hs13 hl hs hf0 hf bx ht0 ht1 ho ho2 ?_
  have := h Kv Qt hk
  exact this.2 V hV hW
end QE
end T88_er
section T89_er
/-! un -/
section UN
variable {dq D n : Nat} {b F : Int} {Mx Mq Mx' Mq' M : mm_} {a o : Int} {sg : List (Int × Int)} {ws : List (Int × Int × Int)} {c : Int} {cm : List Int} {f : Int} {fm : List (Int × Int)} {cc : Int} {cd : List Int} {K : Int → mm_ → Prop} {Kv : mm_ → Prop} {Qr : qr_} {Qt : qt_} {V : vv_}
theorem ER_ou [Inhabited gh_] (h : ER b F Mx Mq a o) {o' : Int} (h0 : 0 ≤ o' ∧ o' ≤ 12) (hq : Mq 6 15 = o') : ER b F (up_ Mx 1 6 o') Mq a o' := by
  obtain ⟨e1, e2, e3, e4, e5, e6, e7, e8, e9, e10, e11, e12, e13, e14, e15⟩ := h
  refine ⟨gd_c (up_ne (by decide)) e1, by rw [up_off (by decide)]; exact e2, e3, up_at, hq, h0, by rw [up_off (by decide)]; exact e7, e8, e9, e10, ?_, by rw [up_off (by decide)]; exact e12, by rw [up_off (by decide)]; exact e13, by rw [up_ne (by decide)]; exact e14, by rw [up_ne (by decide)]; exact e15⟩
  unfold NR
  rw [up_off (by decide), up_off (by decide), up_off (by decide)]
  exact e11
theorem EP_un [Inhabited gh_] {k a1 s1 t1 bd1 w op : Int} {Mx2 Mq2 Mx1 Mq1 : mm_} {y : List Int} {l : List (Int × Int)} (hR : PR b F Mx Mq a o sg ws c cm f fm cc cd) (ho : 0 ≤ o ∧ o < 12) (hX2 : XF Mx Mx2) (hQ2 : QF Mq Mq2) (h7 : Mx2 1 7 = Mx 1 7) (hfq : fqq_ Mq2 = fqq_ Mq) (hg2 : gd_ Mx (a + 1))
    (hP : EP (nU n t1) b F Mx2 Mq2 Mx1 Mq1 (a + 1) a1 (o + 1) ((pc_ k, a) :: sg) ws c cm f fm cc cd y s1 t1 bd1 l) (hs : b = 1 → bd1 = 1 → s1 = -1) (hw : w = pw_ (pc_ k) - 1) (hop : op = if pc_ k = 13 then 15 else 16) :
    EP (nU (n + 1) (pw_ (pc_ k))) b F Mx Mq (pX_ (up_ (hX_ Mx1 s1 w (a + 1)) 1 6 o) op) (pM_ Mq1 (pc_ k) a (t1, Mx 71 (a + 1), bd1) ws.length) a a1 o sg ws c cm f fm cc cd (if b = 0 then [] else op :: y) w (pw_ (pc_ k)) (pb_ (t1, Mx 71 (a + 1), bd1) (pw_ (pc_ k))) ((pc_ k, 0) :: l) := by
  obtain ⟨u1, u2, u3, u4, u5, u6, u7, ⟨u8, u9, u10, u11⟩, ⟨u12, u13⟩, u14, u15⟩ := hP
  obtain ⟨hT, hVT, hER, hQE, hXE, hL⟩ := hR
  have hpc : pc_ k = 13 ∨ pc_ k = 14 := by unfold pc_; split; exact .inl rfl; exact .inr rfl
  have hpw : (pc_ k = 13 ∧ pw_ (pc_ k) = 1) ∨ (pc_ k = 14 ∧ pw_ (pc_ k) = 2) := by
    rcases hpc with h | h
    · left; exact ⟨h, by rw [h]; decide⟩
    · right; exact ⟨h, by rw [h]; decide⟩
  generalize hpcg : pc_ k = pc at *
  generalize hpwg : pw_ pc = pw at *
  have hb01 := hER.2.2.2.2.2.2.2.2.1
  have hX : XF Mx Mx1 := XF_tr hX2 u2
  have hQ : QF Mq Mq1 := QF_tr hQ2 u3
  have h71 : Mx1 71 = Mx 71 := XF_70 hX (by decide) (by decide) (by decide)
  have h712 : Mx2 71 = Mx 71 := XF_70 hX2 (by decide) (by decide) (by decide)
  rw [h712] at u5 u14
  have hp2 := tk_p hT hg2
  have hc := hX_c (M := Mx1) s1 w (a + 1) u4.2.2.2.2.2.2.1 hb01
  -- what X and Q note
  have x2 : b = 1 → ((s1 = -1 ∨ s1 = w) ↔ ¬ (bd1 = 0 ∧ t1 ≠ pw)) := by
    intro hb
    rcases u6 with h | h
    · have := (u14 hb).1 h
      constructor <;> intro h9 <;> omega
    · have h2 := hs hb h
      exact ⟨fun _ h9 => by omega, fun _ => .inl h2⟩
  have hbd' : pb_ (t1, Mx 71 (a + 1), bd1) pw = if bd1 = 0 ∧ t1 = pw then 0 else 1 := rfl
  have hbd01 : pb_ (t1, Mx 71 (a + 1), bd1) pw = 0 ∨ pb_ (t1, Mx 71 (a + 1), bd1) pw = 1 := by rw [hbd']; split; exact .inl rfl; exact .inr rfl
  have e150 : Mq1 150 a = Mx 71 a := pl_at hT hQ hER.1
  have hE3 := pM_QE u5
  rw [hpwg, e150] at hE3
  have hXX : XF Mx (pX_ (up_ (hX_ Mx1 s1 w (a + 1)) 1 6 o) op) := XF_tr hX (XF_tr hX_XF (XF_tr oX_XF pX_XF))
  have hQQ : QF Mq (pM_ Mq1 pc a (t1, Mx 71 (a + 1), bd1) ws.length) := QF_tr hQ pM_QF
  have m8 : up_ (hX_ Mx1 s1 w (a + 1)) 1 6 o 1 8 = b := by rw [up_off (by decide), hX_1 (by decide) (by decide) (by decide)]; exact u4.2.2.2.2.2.2.1
  have m53 : up_ (hX_ Mx1 s1 w (a + 1)) 1 6 o 5 3 = Mx1 5 3 := by rw [up_ne (by decide), hX_r (by decide)]
  have mXE : XE (up_ (hX_ Mx1 s1 w (a + 1)) 1 6 o) cc (y ++ cd) := XE_c m53 (by rw [up_ne (by decide), hX_r (by decide)]) u8
  have m7 : pX_ (up_ (hX_ Mx1 s1 w (a + 1)) 1 6 o) op 1 7 = hX_ Mx1 s1 w (a + 1) 1 7 := by rw [pX_1, up_off (by decide)]
  have hfl : hX_ Mx1 s1 w (a + 1) 1 7 = Mx1 1 7 ∨ hX_ Mx1 s1 w (a + 1) 1 7 = Mx1 1 7 + 1 := by
    rcases hc with h | h
    · rw [h.1]; exact .inl rfl
    · rw [h.2.2.2, nt1_7]; exact .inr rfl
  have hle := u12
  have hb0 := hER.2.2.2.2.2.2.2.2.2.2.2.2.1
  have hb4 := u4.2.2.2.2.2.2.2.2.2.2.2.2.1
  have hE4 : XE (pX_ (up_ (hX_ Mx1 s1 w (a + 1)) 1 6 o) op) cc ((if b = 0 then [] else op :: y) ++ cd) := by
    rcases hb01 with h | h
    · rw [if_pos h, pX_0 (by rw [m8]; exact h)]
      rw [u9 h] at mXE; exact mXE
    · rw [if_neg (by omega)]
      exact pX_E (by rw [m8]; omega) mXE
  have q13 : ∀ i : Int, i ≠ 13 → i ≠ 14 → i ≠ 15 → i ≠ 104 → i ≠ 112 → pM_ Mq1 pc a (t1, Mx 71 (a + 1), bd1) ws.length 6 i = Mq1 6 i := fun i h1 h2 h3 h4 h5 => pM_6 h1 h2 h3 h4 h5
  have hq15 : pM_ Mq1 pc a (t1, Mx 71 (a + 1), bd1) ws.length 6 15 = o := by rw [pM_15, u4.2.2.2.2.1]; omega
  have hfq' := pM_fq (M := Mq1) (s := pc) (tk := a) (L := ws.length) (x := (t1, Mx 71 (a + 1), bd1))
  rw [hpwg, u4.2.2.2.2.2.2.2.1] at hfq'
  have f13 : pM_ Mq1 pc a (t1, Mx 71 (a + 1), bd1) ws.length 6 13 = (aq_ b (fqq_ Mq1) (t1, Mx 71 (a + 1), bd1) pw).1 := congrArg Prod.fst hfq'
  have f14 : pM_ Mq1 pc a (t1, Mx 71 (a + 1), bd1) ws.length 6 14 = (aq_ b (fqq_ Mq1) (t1, Mx 71 (a + 1), bd1) pw).2 := congrArg Prod.snd hfq'
  have keyk : b = 1 → vk_ (aq_ b (fqq_ Mq1) (t1, Mx 71 (a + 1), bd1) pw).1 (aq_ b (fqq_ Mq1) (t1, Mx 71 (a + 1), bd1) pw).2 ∧ kk_ (aq_ b (fqq_ Mq1) (t1, Mx 71 (a + 1), bd1) pw).1 (aq_ b (fqq_ Mq1) (t1, Mx 71 (a + 1), bd1) pw).2 = if bd1 = 0 ∧ t1 ≠ pw then min (kk_ (Mq1 6 13) (Mq1 6 14)) (8 * Mx 71 (a + 1) + 5) else kk_ (Mq1 6 13) (Mq1 6 14) := by
    intro hb
    rw [hb]
    exact aq_k (q := fqq_ Mq1) (x := (t1, Mx 71 (a + 1), bd1)) (w := pw) u4.2.2.2.2.2.2.2.2.2.2.1.2.1 hp2
  have hER5 : ER b F (pX_ (up_ (hX_ Mx1 s1 w (a + 1)) 1 6 o) op) (pM_ Mq1 pc a (t1, Mx 71 (a + 1), bd1) ws.length) a1 o := by
    obtain ⟨e1, e2, e3, e4, e5, e6, e7, e8, e9, e10, e11, e12, e13, e14, e15⟩ := u4
    refine ⟨gd_c (XF_70 (XF_tr hX_XF (XF_tr oX_XF pX_XF)) (by decide) (by decide) (by decide)) e1, ?_, ?_, ?_, hq15, ⟨ho.1, by omega⟩, ?_, ?_, hb01, ?_, ?_, ?_, ?_, ?_, ?_⟩
    · rw [pX_1, up_off (by decide), hX_1 (by decide) (by decide) (by decide)]; exact e2
    · rw [q13 12 (by decide) (by decide) (by decide) (by decide) (by decide)]; exact e3
    · rw [pX_1, up_at]
    · rw [pX_1]; exact m8
    · rw [q13 16 (by decide) (by decide) (by decide) (by decide) (by decide)]; exact e8
    · intro hb
      rw [f13]
      have : aq_ b (fqq_ Mq1) (t1, Mx 71 (a + 1), bd1) pw = fqq_ Mq1 := by
        unfold aq_; split
        · unfold np_; rw [if_pos hb]
        · rfl
      rw [this]; exact e10 hb
    · obtain ⟨n1, n2, n3, n4⟩ := e11
      rcases hb01 with hb | hb
      · have hz : hX_ Mx1 s1 w (a + 1) = Mx1 := by
          rcases hc with h | h
          · exact h.1
          · omega
        have hq : aq_ b (fqq_ Mq1) (t1, Mx 71 (a + 1), bd1) pw = fqq_ Mq1 := by
          unfold aq_; split
          · unfold np_; rw [if_pos hb]
          · rfl
        unfold NR
        rw [f13, f14, hq, pX_1, up_off (by decide), up_off (by decide), hz]
        exact ⟨n1, n2, n3, n4.1, .inl (by rw [q13 16 (by decide) (by decide) (by decide) (by decide) (by decide), e8]; exact hb)⟩
      have kk := keyk hb
      refine ⟨?_, by rw [f13, f14]; exact kk.1, ?_, n4.1, .inr (by
        have h9 : kk_ (Mq1 6 13) (Mq1 6 14) ≤ bb_ (Mx1 1 19) := by
          rcases n4.2 with z | z
          · rw [e8] at z; omega
          · exact z
        rw [f13, f14, kk.2, pX_1, up_off (by decide), hX_1 (by decide) (by decide) (by decide)]
        clear n4 kk n3
        split
        · omega
        · exact h9)⟩
      · rw [pX_1, up_off (by decide), up_off (by decide)]
        rcases hc with h | h
        · rw [h.1]; exact n1
        · rw [h.2.2.2]; exact (kk_nt1 (M := Mx1) (k := 5) (t := a + 1) n1 (by decide) (by decide) (by rw [h71]; exact hp2.1) (by rw [h71]; exact hp2.2)).2
      · rw [f13, f14, kk.2, pX_1, up_off (by decide), up_off (by decide)]
        rcases hc with h | h
        · have h9 : ¬ (bd1 = 0 ∧ t1 ≠ pw) := (x2 hb).mp (by rcases h.2 with h8 | h8; omega; exact h8)
          rw [h.1, if_neg h9]; exact n3
        · have h9 : bd1 = 0 ∧ t1 ≠ pw := Classical.byContradiction fun h8 => by
            rcases (x2 hb).mpr h8 with h7 | h7
            · exact h.2.1 h7
            · exact h.2.2.1 h7
          rw [h.2.2.2, if_pos h9, (kk_nt1 (M := Mx1) (k := 5) (t := a + 1) n1 (by decide) (by decide) (by rw [h71]; exact hp2.1) (by rw [h71]; exact hp2.2)).1, n3, h71]
          omega
    · rw [m7]; rcases hfl with h | h <;> omega
    · rw [m7]; rcases hfl with h | h <;> omega
    · rw [hE4.1]
      have := u8.1
      simp only [List.length_append] at this
      split
      · rename_i h; rw [u9 h] at this; simp only [List.length_nil] at this; simp only [List.nil_append]; push_cast at this; omega
      · simp only [List.cons_append, List.length_cons, List.length_append]; push_cast at this ⊢; omega
    · rw [hE4.1]
      have h1 := u8.1
      have h2 := hXE.1
      have h3 := hER.2.2.2.2.2.2.2.2.2.2.2.2.2.2
      simp only [List.length_append] at h1
      split
      · simp only [List.nil_append]; omega
      · simp only [List.cons_append, List.length_cons, List.length_append]; push_cast at h1 ⊢; omega
  refine ⟨by omega, hXX, hQQ, hER5, hE3, hbd01, ?_, ⟨hE4, fun hb => by rw [if_pos hb], fun hb h => ?_, ?_⟩, ⟨?_, ?_⟩, fun hb => ⟨fun h => ?_, fun h => ?_⟩, fun hb h st Dd hD => ?_⟩
  · simp only [List.length_cons]; push_cast; omega
  · rw [if_neg (by omega)]
    have h9 : bd1 = 0 ∧ t1 = pw := by rw [hbd'] at h; split at h; assumption; omega
    rw [u10 hb h9.1, er_c hQ2]
    show op :: er_ Mq l = en_1 Mq (pc, 0) ++ er_ Mq l
    rw [hop]
    rcases hpc with h8 | h8 <;> (rw [h8]; rfl)
  · split
    · simp only [List.length_nil]; omega
    · simp only [List.length_cons]; push_cast; omega
  · rw [m7]; rcases hfl with h | h <;> omega
  · rw [m7]; rcases hfl with h | h <;> omega
  · have h9 : bd1 = 0 ∧ t1 = pw := by rw [hbd'] at h; split at h; assumption; omega
    have h8 := (u14 hb).1 h9.1
    refine ⟨hw, by omega, by omega, ?_, ?_⟩
    · rw [m7]
      rcases hc with h7' | h7'
      · rw [h7'.1, h8.2.2.2.1]; exact h7
      · exact absurd (by omega) h7'.2.2.1
    · rw [hfq']
      unfold aq_
      rw [if_neg (fun h6 => h6.2 h9.2), h8.2.2.2.2, hfq]
  · have h9 : ¬ (bd1 = 0 ∧ t1 = pw) := fun h8 => by rw [hbd', if_pos h8] at h; omega
    refine ⟨.inr hw, ?_, ?_⟩
    · rw [m7]
      rcases u6 with h8 | h8
      · have h6 := (u14 hb).1 h8
        rcases hc with h7' | h7'
        · have := h7'.2; exfalso; omega
        · rw [h7'.2.2.2, nt1_7, h6.2.2.2.1, h7]; omega
      · have h6 := ((u14 hb).2 h8).2.1
        rcases hfl with h5 | h5 <;> omega
    · rw [f13, f14, (keyk hb).2]
      have ga1 : gd_ Mx a1 := gd_c (XF_70 hX (r := 70) (by decide) (by decide) (by decide)).symm u4.1
      have hm := (hT a1 ga1).2.2.2.2.1 (a + 1) hg2 (by omega)
      rcases u6 with h8 | h8
      · rw [if_pos ⟨h8, fun h7' => h9 ⟨h8, h7'⟩⟩]; omega
      · rw [if_neg (by omega)]; exact ((u14 hb).2 h8).2.2
  · have h9 : bd1 = 0 ∧ t1 = pw := by rw [hbd'] at h; split at h; assumption; omega
    have hn : nU n t1 ≤ nU (n + 1) pw := by rw [h9.2]; unfold nU; split <;> (push_cast; omega)
    have hn1 : 1 ≤ nU (n + 1) pw := by unfold nU; split <;> (push_cast; omega)
    have ht := ty_c hQ2 l st _ (u15 hb h9.1 st Dd (by omega))
    refine ⟨t1 :: st, ht, ?_, by simp only [List.length_cons]; push_cast; omega⟩
    rw [h9.2]
    refine .inr (.inr (.inr (.inr (.inr (.inr (.inl ⟨hpc, st, ?_, ?_⟩))))))
    · show pw :: st = pw_ pc :: st; rw [hpwg]
    · show pw :: st = pw_ pc :: st; rw [hpwg]
/-- what is said of first -/
def SF [Inhabited gh_] (D dq n : Nat) (o : Int) : Prop := ∀ (b F : Int) (Mx Mq : mm_) (a : Int) (sg : List (Int × Int)) (ws : List (Int × Int × Int)) (c : Int) (cm : List Int) (f : Int) (fm : List (Int × Int)) (cc : Int) (cd : List Int) (K : Int → mm_ → Prop) (Qt : qt_),
  PR b F Mx Mq a o sg ws c cm f fm cc cd → Mx 70 a ≠ 245 → Mx 70 a ≠ 41 → (b = 1 → ES (Mx 70) 6 o a ≠ none) → FK n dq 6 b F Mx Mq a o sg ws c cm f fm cc cd K →
  (b = 0 → ∀ Mx', XW dq 0 Mx Mq Mx' → Qt 8 Mx') → Tr_ wd0 pg0 D 152 [.inr (.inr 1)] Mx (ri_ K) Qt
theorem x_un [Inhabited gh_] (hU : ∀ n' : Nat, n = n' + 1 → SA 151 5 (D + 4) dq n' (o + 1)) (hF : SF (D + 4) dq n o) (ho : o = 12 - (n : Int)) : SA 151 5 (D + 5) dq n o := by
  intro b F Mx Mq a sg ws c cm f fm cc cd K Qt hR hS hK hQ
  have hR9 := hR
  obtain ⟨hT, hVT, hER, hQE, hXE, hL⟩ := hR9
  have h3 : Mx 1 3 = a := hER.2.1
  have ha := ER_a hER
  have hES := ES_5 (κ := Mx 70) (o := o) (a := a) ha.1 ha.2
  have hiX := ER_iX hER
  have hgo := ER_goq hER
  have hb01 := hER.2.2.2.2.2.2.2.2.1
  have ho6 := hER.2.2.2.2.2.1
  have h8 : Mx 1 6 = o := hER.2.2.2.1
  have hKQ := (hT a hER.1).1
  have e112 : Mq 6 112 = sg.length := hQE.1
  have hsl := hL.2.2.2.2.2.1
  refine t_151 fun V hV hW => b_151_0 (Tr_mono _) hV hW Mx ?_
  have pre : ∀ x1 : Int, (x1 = 0 ∨ x1 = 1) → (x1 = 1 ↔ Mx 70 a = 245) → (Mx 70 a = 245 ∨ Mx 70 a = 41) → V 25 [rr 1, ii x1, none, none, none] [] Mx := by
    intro x1 hx01 hx1 hk
    rw [if_pos hk] at hES
    refine b_151_25 (Tr_mono _) hV hW x1 Mx ?_
    have fail : ∀ Mx' : mm_, b = 0 → XF Mx Mx' → Mx' 1 4 = 2 → Mx' 1 5 = Mx 71 a → Mx' 1 7 = Mx 1 7 → (o = 12 ∨ a = 1200) → Qt 8 Mx' := by
      intro Mx' hb hx h4 h5 h7 hor
      refine hQ hb _ (XW_i (v := 0) hgo hx fun K Qt q => ?_)
      refine q_272pr (a := a) (o := o) (k := Mx 70 a) hER.2.2.1 ha.1 ha.2 (ER_ok hER hb) hKQ hk hER.2.2.2.2.1 ho6.1 ho6.2 hor (by omega) (by omega) fun M' h1 h2 h3' h4' h5' => q M' h1 h2 (by rw [h3', h4]) ⟨by rw [h4', h5]; exact (hT a hER.1).2.1.symm, by rw [h7]; exact ER_b7 hER⟩ h5'
    refine x_118 hiX (by rw [h8]; exact ho6.1) (by rw [h8]; exact ho6.2) (fun ho1 => ?_) (fun ho1 => ?_)
    · rw [h8] at ho1 ⊢
      obtain ⟨n', hn'⟩ : ∃ n' : Nat, n = n' + 1 := ⟨n - 1, by omega⟩
      rw [if_neg (by omega)] at hES
      rw [hES] at hS
      have hi1 : iX_ (up_ Mx 1 6 (o + 1)) := by unfold iX_; rw [up_off (by decide), h3]; exact ha
      have e13 : up_ Mx 1 6 (o + 1) 1 3 = a := by rw [up_off (by decide)]; exact h3
      refine x_105 hi1 (fun h12 => ?_) (fun h12 => ?_)
      · rw [e13] at h12
        have hkk : Mx 70 a ≠ 102 ∧ Mx 70 a ≠ 103 := by omega
        have hE1 := ER_o hER (o' := o + 1) ⟨by omega, by omega⟩
        have hE2 := (ER_go hE1 h12 (by rw [up_ne (by decide)]; exact hkk)).1
        have hX : XF Mx (nX_ (up_ Mx 1 6 (o + 1))) := XF_tr oX_XF nX_XF
        have hQ2 : QF Mq (nx_ (ho_ (up_ Mq 6 15 (o + 1)) (pc_ (Mx 70 a)) a)) := QF_tr oq_QF (QF_tr ho_QF nx_QF)
        have e70 : nX_ (up_ Mx 1 6 (o + 1)) 70 = Mx 70 := XF_70 hX (by decide) (by decide) (by decide)
        have e71 : nX_ (up_ Mx 1 6 (o + 1)) 71 = Mx 71 := XF_70 hX (by decide) (by decide) (by decide)
        have hpc : pc_ (Mx 70 a) = 13 ∨ pc_ (Mx 70 a) = 14 := by unfold pc_; split; exact .inl rfl; exact .inr rfl
        have hr1 : Rq dq 0 Mq 0 (nx_ (ho_ (up_ Mq 6 15 (o + 1)) (pc_ (Mx 70 a)) a)) := Rq_272 hgo fun K Qt hk9 => q_272p (a := a) (o := o) (k := Mx 70 a) hER.2.2.1 ha.1 h12 hgo hKQ hk hER.2.2.2.2.1 ho6.1 ho1 (by omega) (by omega) hk9
        have g1 : gd_ Mx (a + 1) := gd_c e70.symm hE2.1
        obtain ⟨l1, l2, l3, l4, l5, l6, l7, l8, l9⟩ := hL
        have hPR : PR b F (nX_ (up_ Mx 1 6 (o + 1))) (nx_ (ho_ (up_ Mq 6 15 (o + 1)) (pc_ (Mx 70 a)) a)) (a + 1) (o + 1) ((pc_ (Mx 70 a), a) :: sg) ws c cm f fm cc cd := by
          refine ⟨Tks_c hX hQ2 hT, VT_c hX hQ2 hVT, ER_Q hE2 ?_ ?_ ?_ ?_ ?_, nx_QE (ho_QE (QE_sc hQE (by decide) (by decide) (by decide) (by decide))), XE_c (by rw [nX_ne (by decide), up_ne (by decide)]) (by rw [nX_ne (by decide), up_ne (by decide)]) hXE, ?_, l2, l3, ?_, by omega, ?_, by omega, l8, ?_⟩
          · rw [nx_12, nx_12, ho_6 (by decide)]
          · rw [nx_6 (by decide), nx_6 (by decide), ho_6 (by decide)]
          · rw [nx_6 (by decide), nx_6 (by decide), ho_6 (by decide)]
          · rw [nx_6 (by decide), nx_6 (by decide), ho_6 (by decide)]
          · rw [nx_6 (by decide), nx_6 (by decide), ho_6 (by decide)]
          · intro x hx
            rcases List.mem_cons.mp hx with h | h
            · rw [h]; exact ⟨ha.1, by show a < 1202; omega⟩
            · exact l1 x h
          · rw [l4]
            show nb_ sg = (if pc_ (Mx 70 a) = 1 ∨ pc_ (Mx 70 a) = 2 then 1 else 0) + nb_ sg
            rw [if_neg (by omega), Nat.zero_add]
          · simp only [List.length_cons]; push_cast; omega
          · simp only [List.length_cons]; push_cast; omega
        have h23 : nX_ (up_ Mx 1 6 (o + 1)) 1 3 = a + 1 := hPR.2.2.1.2.1
        have hfq2 : fqq_ (nx_ (ho_ (up_ Mq 6 15 (o + 1)) (pc_ (Mx 70 a)) a)) = fqq_ Mq := by unfold fqq_; rw [nx_6 (by decide), nx_6 (by decide), ho_6 (by decide), ho_6 (by decide), up_off (by decide), up_off (by decide)]
        have at54 : ∀ x4 : Int, x4 = pw_ (pc_ (Mx 70 a)) - 1 → V 54 [rr 1, ii x1, ii (Mx 1 7), ii (a + 1), ii x4] [] (nX_ (up_ Mx 1 6 (o + 1))) := by
          intro x4 hx4
          refine b_151_54 (Tr_mono _) hV hW x1 (Mx 1 7) (a + 1) x4 _ ?_
          refine hU n' hn' b F _ _ (a + 1) _ ws c cm f fm cc cd _ _ hPR (fun h => by rw [e70]; exact (gb_ne2 (hS h)).2) ?_ (fun h Mx' hw => hQ h Mx' (XW_tr hX hQ2 hr1 hw))
          intro s1 Mx1 Mq1 a1 y t1 bd1 l hP hs hx hS4
          rw [e70] at hS4
          have hER1 := hP.2.2.2.1
          have hfl1 := ER_fl hER1
          have hst1 := ER_st hER1
          refine x_156 (by omega) (by omega) hfl1.1 hfl1.2 ?_
          have e6 : hX_ Mx1 s1 x4 (a + 1) 1 6 = o + 1 := by rw [hX_1 (by decide) (by decide) (by decide)]; exact hER1.2.2.2.1
          have ew : w32 (hX_ Mx1 s1 x4 (a + 1) 1 6 - 1) = o := by rw [e6, w32_id (by omega) (by omega)]; omega
          have e2 : up_ (hX_ Mx1 s1 x4 (a + 1)) 1 6 o 1 2 = 5 := by
            rw [up_off (by decide), hX_1 (by decide) (by decide) (by decide), hP.2.1.2.1 2 (by decide) (by decide) (by decide) (by decide) (by decide)]; exact hPR.2.1.1
          have e53 : up_ (hX_ Mx1 s1 x4 (a + 1)) 1 6 o 5 3 = Mx1 5 3 := by rw [up_ne (by decide), hX_r (by decide)]
          have fin : ∀ op : Int, op = (if pc_ (Mx 70 a) = 13 then 15 else 16) → Tr_ wd0 pg0 (D + 4) 138 [.inr (.inr 1), .inl op] (up_ (hX_ Mx1 s1 x4 (a + 1)) 1 6 o) (rv_ fun M3 => (if M3 1 7 ≤ Mx 1 7 then ri_ K [.inl x4] M3 else ri_ K [.inl (-1)] M3)) Qt := by
            intro op hop
            refine x_138 e2 (by rw [e53]; exact hst1.1) (by rw [e53]; exact hst1.2) ?_
            have hPP := EP_un hR ⟨ho6.1, ho1⟩ hX hQ2 (by rw [nX_1 (by decide), up_off (by decide)]) hfq2 g1 hP hs hx4 hop
            have hp := EP_ret hPP (s := if pX_ (up_ (hX_ Mx1 s1 x4 (a + 1)) 1 6 o) op 1 7 ≤ Mx 1 7 then x4 else -1) rfl
            rw [hn'] at hK
            have hk9 := hK _ _ _ a1 _ _ _ _ hp.1 hp.2 (fun M' hex => ?_) (by rw [hES, gb_eq2 h12]; exact hS4)
            · show (if pX_ (up_ (hX_ Mx1 s1 x4 (a + 1)) 1 6 o) op 1 7 ≤ Mx 1 7 then ri_ K [.inl x4] _ else ri_ K [.inl (-1)] _)
              split
              · rename_i h; rw [if_pos h] at hk9; exact ri_i hk9
              · rename_i h; rw [if_neg h] at hk9; exact ri_i hk9
            · have u5 := hP.2.2.2.2.1
              rw [e71] at u5
              refine Rq_tr hr1 (hx M' (Ex9_p u5 hpc (by omega) (by omega) l8 ?_ hP.2.2.2.2.2.1 ha.1 (by omega) (by rw [hER1.2.2.2.2.1]; omega) (by rw [hER1.2.2.2.2.1]; omega) hex))
              have := hP.2.2.2.2.2.2.1
              have := (ER_a hER1).2
              simp only [List.length_append]; push_cast; omega
          rw [ew]
          by_cases c1 : x1 = 0
          · rw [if_pos c1]; refine fin 16 ?_
            have : Mx 70 a ≠ 245 := fun h => by have := hx1.mpr h; omega
            unfold pc_; rw [if_neg this, if_neg (by decide)]
          · rw [if_neg c1]; refine fin 15 ?_
            have : Mx 70 a = 245 := hx1.mp (by omega)
            unfold pc_; rw [if_pos this, if_pos rfl]
        rw [h23]
        by_cases c1 : x1 = 0
        · rw [if_pos c1]
          refine at54 1 ?_
          have : Mx 70 a ≠ 245 := fun h => by have := hx1.mpr h; omega
          unfold pc_; rw [if_neg this]; decide
        · rw [if_neg c1]
          refine at54 0 ?_
          have : Mx 70 a = 245 := hx1.mp (by omega)
          unfold pc_; rw [if_pos this]; decide
      · rw [e13] at h12 ⊢
        have hb : b = 0 := by
          rcases hb01 with h | h
          · exact h
          · exact absurd (gb_ne2 (hS h)).1 (by omega)
        exact fail _ hb (XF_tr oX_XF fl_XF) fl_4 (by rw [fl_5, up_ne (by decide)]) (by rw [fl_7, up_off (by decide)]) (.inr h12)
    · rw [h8] at ho1
      rw [if_pos ho1] at hES
      have hb : b = 0 := by
        rcases hb01 with h | h
        · exact h
        · exact absurd hES (hS h)
      rw [h3]
      exact fail _ hb fl_XF fl_4 fl_5 fl_7 (.inl ho1)
  have e70 : Mx 70 (Mx 1 3) = Mx 70 a := by rw [h3]
  refine x_117 hiX (by decide) (by decide) (fun h9 => ?_) (fun h9 => ?_)
  · rw [if_neg (by decide)]
    rw [e70] at h9
    replace h9 : Mx 70 a = 245 := h9
    exact pre 1 (.inr rfl) ⟨fun _ => h9, fun _ => rfl⟩ (.inl h9)
  · rw [if_pos rfl]
    rw [e70] at h9
    replace h9 : Mx 70 a ≠ 245 := h9
    refine x_103 hiX (fun g9 => ?_) (fun g9 => ?_)
    · rw [if_neg (by decide)]
      rw [e70] at g9
      exact pre 0 (.inl rfl) ⟨fun h => absurd h (by decide), fun h => absurd h h9⟩ (.inr g9)
    · rw [if_pos rfl]
      rw [e70] at g9
      rw [if_neg (by intro h; rcases h with h | h; exact h9 h; exact g9 h)] at hES
      refine hF b F Mx Mq a sg ws c cm f fm cc cd _ _ hR h9 g9 (fun h => by rw [← hES]; exact hS h) ?_ hQ
      intro s Mx' Mq' a' y t bd l hP hs hx hS4
      exact ri_i (hK s Mx' Mq' a' y t bd l hP hs hx (by rw [hES]; exact hS4))
end UN
end T89_er
section T90_er
/-! first: a variable; its name and what is noted -/
/-- what is noted of a variable: no such one, an array or not -/
def kn_ (Mq : mm_) (r idx : Int) : Int := if r = -1 then 4 else if (if Mq 183 (8 * Mq 6 61 + r) ≤ 0 then (0 : Int) else 1) = idx then 0 else 5
def vq_ (Mq : mm_) (r : Int) : Int := if r = -1 then -1 else 8 * Mq 6 61 + r
def Xn_ (M : mm_) (b k a : Int) : mm_ := if b = 0 ∨ k = 0 then M else nt1_ M k a
def Qn_ (M : mm_) (b k p : Int) : mm_ := if b = 0 ∨ k = 0 then M else nt_ M k p
section VA
variable {dq D n d : Nat} {b F : Int} {Mx Mq Mx' Mq' M : mm_} {a o : Int} {sg : List (Int × Int)} {ws : List (Int × Int × Int)} {c : Int} {cm : List Int} {f : Int} {fm : List (Int × Int)} {cc : Int} {cd : List Int} {K : Int → mm_ → Prop} {Kv : mm_ → Prop} {Qr : qr_} {Qt : qt_} {V : vv_}
theorem kn_r [Inhabited gh_] {r idx : Int} : kn_ Mq r idx = 0 ∨ kn_ Mq r idx = 4 ∨ kn_ Mq r idx = 5 := by
  unfold kn_
  by_cases c1 : r = -1
  · rw [if_pos c1]; exact .inr (.inl rfl)
  · rw [if_neg c1]
    by_cases c2 : (if Mq 183 (8 * Mq 6 61 + r) ≤ 0 then (0 : Int) else 1) = idx
    · rw [if_pos c2]; exact .inl rfl
    · rw [if_neg c2]; exact .inr (.inr rfl)
theorem Xn_1 [Inhabited gh_] {k i : Int} (h4 : i ≠ 4) (h5 : i ≠ 5) (h7 : i ≠ 7) : Xn_ M b k a 1 i = M 1 i := by unfold Xn_; split; rfl; exact nt1_1 h4 h5 h7
theorem Xn_r [Inhabited gh_] {k : Int} {r : Nat} (h : r ≠ 1) : Xn_ M b k a r = M r := by unfold Xn_; split; rfl; exact nt1_r h
theorem Xn_XF [Inhabited gh_] {k : Int} : XF M (Xn_ M b k a) := by unfold Xn_; split; exact XF_rf; exact nt1_XF
theorem Qn_6 [Inhabited gh_] {k p i : Int} (h1 : i ≠ 13) (h2 : i ≠ 14) : Qn_ M b k p 6 i = M 6 i := by unfold Qn_; split; rfl; exact nt_6 h1 h2
theorem Qn_r [Inhabited gh_] {k p : Int} {r : Nat} (h : r ≠ 6) : Qn_ M b k p r = M r := by unfold Qn_; split; rfl; exact nt_r h
theorem Qn_QF [Inhabited gh_] {k p : Int} : QF M (Qn_ M b k p) := by unfold Qn_; split; exact QF_rf; exact nt_QF
theorem Qn_QE [Inhabited gh_] {k p : Int} (h : QE M sg ws cm f fm) : QE (Qn_ M b k p) sg ws cm f fm := by unfold Qn_; split; exact h; exact nt_QE h
/-- Q's named, up to where it is known what the variable is -/
theorem q_275 [Inhabited gh_] (hVT : VT Mx Mq) {p r idx : Int} (ha : Mq 6 12 = a) (h0 : 0 ≤ a) (h12 : a < 1200) (hg : go_ Mq) (h1 : Mq 149 a = 1) (h16 : Mq 6 16 = b) (h01 : b = 0 ∨ b = 1) (hr : r = vrr Mq (Mq 151 a)) (hi : (Mq 149 (a + 1) = 3 ∧ Mq 151 (a + 1) = 91 ∧ idx = 1) ∨ (¬ (Mq 149 (a + 1) = 3 ∧ Mq 151 (a + 1) = 91) ∧ idx = 0))
    (h : ∀ V : vv_, Cl_ wd0 (Tr_ wd0 pg0 (d + 3)) V (ri_ K) Qt m_275 → Wk_ V → V 90 [rr 6, ii p, ii a, ii (vq_ Mq r), ii idx] [] (Qn_ (nx_ Mq) b (kn_ Mq r idx) p)) : Tr_ wd0 pg0 (d + 4) 275 [.inr (.inr 6), .inl p] Mq (ri_ K) Qt := t_275 fun V hV hW => b_275_0 (Tr_mono _) hV hW p Mq (by
  subst ha
  have h9 := h V hV hW
  refine q_233g hg h0 h12 h1 ?_
  refine q_227g (nx_go hg) ?_
  rw [if_pos rfl]
  have hq : QF Mq (nx_ Mq) := nx_QF
  have e151 : nx_ Mq 151 = Mq 151 := nx_ne (by decide)
  have e149 : nx_ Mq 149 = Mq 149 := nx_ne (by decide)
  have e61 : nx_ Mq 6 61 = Mq 6 61 := nx_6 (by decide)
  have e183 : nx_ Mq 183 = Mq 183 := nx_ne (by decide)
  have e16 : nx_ Mq 6 16 = b := by rw [nx_6 (by decide)]; exact h16
  refine ⟨by omega, q_276R (VT_c XF_rf hq hVT) ?_⟩
  rw [e151, vrr_c hq, ← hr, e61]
  have evq : (if r = -1 then -1 else 8 * Mq 6 61 + r) = vq_ Mq r := rfl
  rw [evq]
  have hrr : r = -1 ∨ (0 ≤ r ∧ r < Mq 171 (Mq 6 61)) := by rw [hr]; exact vrr_r hVT
  have ht := hVT.2.1
  have ht0 := hVT.2.2.1
  have ht6 := hVT.2.2.2.1
  have hv8 := hVT.2.2.2.2.1
  have hvr : (r = -1 ∧ vq_ Mq r = -1) ∨ (r ≠ -1 ∧ 0 ≤ r ∧ vq_ Mq r = 8 * Mq 6 61 + r ∧ 0 ≤ vq_ Mq r ∧ vq_ Mq r < 48) := by
    unfold vq_
    rcases hrr with h | h
    · left; exact ⟨h, if_pos h⟩
    · right
      have e : Mq 171 (Mq 6 61) ≤ 8 := by rw [ht, hv8.2.2]; exact hv8.2.1
      rw [if_neg (by omega)]
      refine ⟨by omega, h.1, rfl, by rw [ht]; omega, by rw [ht]; omega⟩
  have hin : in9_ (nx_ Mq) := by unfold in9_; rw [nx_12]; omega
  have e12 : nx_ Mq 6 12 = Mq 6 12 + 1 := nx_12
  have at54 : ∀ M4 : mm_, (M4 = if b = 0 ∨ r ≠ -1 then nx_ Mq else nt_ (nx_ Mq) 4 p) → V 54 [rr 6, ii p, ii (Mq 6 12), ii (vq_ Mq r), ii idx] [] M4 := by
    intro M4 hM4
    refine b_275_54 (Tr_mono _) hV hW p (Mq 6 12) (vq_ Mq r) idx M4 ?_
    have m16 : M4 6 16 = b := by
      rw [hM4]; split
      · exact e16
      · rw [nt_6 (by decide) (by decide)]; exact e16
    intro _
    rw [m16]
    rcases h01 with hb | hb
    · rw [if_pos hb]
      rw [if_pos (.inl hb)] at hM4
      unfold Qn_ at h9
      rw [if_pos (.inl hb)] at h9
      rw [hM4]; exact h9
    · rw [if_neg (by omega)]
      rcases hvr with h | h
      · rw [if_pos (by omega)]
        rw [if_neg (by omega)] at hM4
        have ek : kn_ Mq r idx = 4 := by unfold kn_; rw [if_pos h.1]
        rw [ek] at h9
        unfold Qn_ at h9
        rw [if_neg (by omega)] at h9
        rw [hM4]; exact h9
      · rw [if_neg (by omega)]
        rw [if_pos (.inr h.1)] at hM4
        have e183' : M4 183 (vq_ Mq r) = Mq 183 (8 * Mq 6 61 + r) := by rw [hM4, e183, h.2.2.1]
        rw [e183']
        refine ⟨⟨h.2.2.2.1, h.2.2.2.2⟩, ?_⟩
        have hidx : idx = 0 ∨ idx = 1 := by rcases hi with h | h; exact .inr h.2.2; exact .inl h.2
        unfold kn_ at h9
        rw [if_neg h.1] at h9
        by_cases c1 : Mq 183 (8 * Mq 6 61 + r) ≤ 0
        · rw [if_pos c1]
          rw [if_pos c1] at h9
          by_cases c2 : idx = 0
          · rw [if_pos c2]
            rw [if_pos c2.symm] at h9
            unfold Qn_ at h9
            rw [if_pos (.inr rfl)] at h9
            rw [hM4]; exact h9
          · rw [if_neg c2]
            rw [if_neg (fun h => c2 h.symm)] at h9
            unfold Qn_ at h9
            rw [if_neg (by omega)] at h9
            refine q_236 ?_
            rw [hM4]; exact h9
        · rw [if_neg c1]
          rw [if_neg c1] at h9
          by_cases c2 : idx = 1
          · rw [if_pos c2]
            rw [if_pos c2.symm] at h9
            unfold Qn_ at h9
            rw [if_pos (.inr rfl)] at h9
            rw [hM4]; exact h9
          · rw [if_neg c2]
            rw [if_neg (fun h => c2 h.symm)] at h9
            unfold Qn_ at h9
            rw [if_neg (by omega)] at h9
            refine q_236 ?_
            rw [hM4]; exact h9
  have rest : ∀ v4 : Int, v4 = idx → (bl_ (nx_ Mq 6 16) → (if nx_ Mq 6 16 = 0 then V 54 [rr 6, ii p, ii (Mq 6 12), ii (vq_ Mq r), ii v4] [] (nx_ Mq) else (if vq_ Mq r < 0 then Tr_ wd0 pg0 (d + 3) 236 [.inr (.inr 6), .inl 4, .inl p] (nx_ Mq) (rv_ fun M5 => V 54 [rr 6, ii p, ii (Mq 6 12), ii (vq_ Mq r), ii v4] [] M5) Qt else V 54 [rr 6, ii p, ii (Mq 6 12), ii (vq_ Mq r), ii v4] [] (nx_ Mq)))) := by
    intro v4 hv4 _
    rw [hv4, e16]
    rcases h01 with hb | hb
    · rw [if_pos hb]; exact at54 _ (by rw [if_pos (.inl hb)])
    · rw [if_neg (by omega)]
      rcases hvr with h | h
      · rw [if_pos (by omega)]
        exact q_236 (at54 _ (by rw [if_neg (by omega)]))
      · rw [if_neg (by omega)]; exact at54 _ (by rw [if_pos (.inr h.1)])
  rcases hi with hi | hi
  · refine q_237t hin (by rw [e149, e12]; exact hi.1) (by rw [e151, e12]; exact hi.2.1) ?_
    exact rest 1 hi.2.2.symm
  · refine q_237f hin (by rw [e149, e151, e12]; exact hi.1) ?_
    exact rest 0 hi.2.symm)
theorem q_275r [Inhabited gh_] {p : Int} (ha : Mq 6 12 = 1200) (hg : ok_ Mq) (h1 : Mq 149 1200 = 1) (h : K 1 (bf_ Mq 2 (Mq 150 1200))) : Tr_ wd0 pg0 (d + 4) 275 [.inr (.inr 6), .inl p] Mq (ri_ K) Qt := t_275 fun V hV hW => b_275_0 (Tr_mono _) hV hW p Mq (by
  refine q_233r hg ha (by rw [ha]; exact h1) ?_
  refine q_227s (bf_sp hg.2 (by decide)) ?_
  rw [if_neg (by decide), ha]
  exact ⟨.inr rfl, ri_i h⟩)
/-- the two stay in step over what is noted -/
theorem ER_n [Inhabited gh_] {k : Int} (h : ER b F Mx Mq a o) {tk : Int} (hk : k = 0 ∨ k = 4 ∨ k = 5) (hp0 : 0 ≤ Mx 71 tk ∧ Mx 71 tk ≤ 5000) (hf : Mx 1 7 + 1 + 8 * (1201 - a) ≤ 1000001000 - (gg_ : Int)) : ER b F (Xn_ Mx b k tk) (Qn_ Mq b k (Mx 71 tk)) a o ∧ (b = 0 ∨ k = 0 → Xn_ Mx b k tk = Mx ∧ Qn_ Mq b k (Mx 71 tk) = Mq) ∧ (b = 1 → k ≠ 0 → Xn_ Mx b k tk 1 7 = Mx 1 7 + 1 ∧ kk_ (Qn_ Mq b k (Mx 71 tk) 6 13) (Qn_ Mq b k (Mx 71 tk) 6 14) ≤ 8 * Mx 71 tk + 5) := by
  unfold Xn_ Qn_
  by_cases c : b = 0 ∨ k = 0
  · rw [if_pos c, if_pos c]
    exact ⟨h, fun _ => ⟨rfl, rfl⟩, fun h1 h2 => by omega⟩
  · rw [if_neg c, if_neg c]
    have hb : b = 1 := by have := h.2.2.2.2.2.2.2.2.1; omega
    have := ER_nt (k := k) (t := tk) (p := Mx 71 tk) h hb (by omega) rfl hp0 hf
    refine ⟨this.1, fun h9 => absurd h9 c, fun _ _ => ⟨nt1_7, ?_⟩⟩
    have := this.2
    omega
end VA
end T90_er
section T91_er
/-! first: a variable, X's way up to its brackets -/
section VX
variable {dq D n d : Nat} {b F : Int} {Mx Mq Mx' Mq' M : mm_} {a o : Int} {sg : List (Int × Int)} {ws : List (Int × Int × Int)} {c : Int} {cm : List Int} {f : Int} {fm : List (Int × Int)} {cc : Int} {cd : List Int} {K : Int → mm_ → Prop} {Kv : mm_ → Prop} {Qr : qr_} {Qt : qt_} {V : vv_}
/-- whether it is an array -/
def ar_ (Mq : mm_) (r : Int) : Int := if r = -1 then 0 else if Mq 183 (8 * Mq 6 61 + r) ≤ 0 then 0 else 1
theorem x_155 [Inhabited gh_] (hR : PR b F Mx Mq a o sg ws c cm f fm cc cd) (hk : Mx 70 a = 100) (hS : b = 1 → a < 1200) {r idx : Int} (hr : r = vrr Mq (Mq 151 a)) (hidx : (Mx 70 (a + 1) = 291 ∧ idx = 1) ∨ (Mx 70 (a + 1) ≠ 291 ∧ idx = 0))
    (hG : a < 1200 → ∀ V : vv_, Cl_ wd0 (Tr_ wd0 pg0 (D + 5)) V (ri_ K) Qt m_155 → Wk_ V → V 103 [rr 1, ii (Mx 1 7), ii a, ii r, ii (8 * Mx 1 18 + r), ii (ar_ Mq r), ii idx] [] (Xn_ (nX_ Mx) b (kn_ Mq r idx) a)) (hQ : b = 0 → ∀ Mx', XW dq 0 Mx Mq Mx' → Qt 8 Mx') : Tr_ wd0 pg0 (D + 6) 155 [.inr (.inr 1)] Mx (ri_ K) Qt := by
  have hR9 := hR
  obtain ⟨hT, hVT, hER, hQE, hXE, hL⟩ := hR9
  have h3 : Mx 1 3 = a := hER.2.1
  have ha := ER_a hER
  have hgo := ER_goq hER
  have hb01 := hER.2.2.2.2.2.2.2.2.1
  have hKQ := (hT a hER.1).1
  rw [hk] at hKQ
  have t149 : Mq 149 a = 1 := by unfold KQ at hKQ; omega
  refine t_155 fun V hV hW => b_155_0 (Tr_mono _) hV hW Mx ?_
  refine x_107 (ER_iX hER) (fun _ h12 => ?_) (fun h => absurd (by rw [h3]; exact hk) h) (fun _ h12 => ?_)
  · rw [h3] at h12 ⊢
    have h9 := hG h12 V hV hW
    obtain ⟨hER1, hst1, hfb1⟩ := ER_go hER h12 (by rw [hk]; decide)
    have hX1 : XF Mx (nX_ Mx) := nX_XF
    have hQ1 : QF Mq (nx_ Mq) := nx_QF
    have nm1 : nm9_ (nX_ Mx) a := by
      have e : nX_ Mx 70 = Mx 70 := nX_ne (by decide)
      exact ⟨gd_c e hER.1, by rw [e]; exact hk⟩
    refine x_128R (Tks_c hX1 hQ1 hT) (VT_c hX1 hQ1 hVT) nm1 ?_
    rw [nx_ne (r := 151) (by decide), vrr_c hQ1, ← hr]
    have e18 : nX_ Mx 1 18 = Mx 1 18 := nX_1 (by decide)
    have e8 : nX_ Mx 1 8 = b := by rw [nX_1 (by decide)]; exact hER.2.2.2.2.2.2.1
    have e2 : nX_ Mx 1 2 = 5 := by rw [nX_1 (by decide)]; exact hVT.1
    have e131 : nX_ Mx 131 = Mx 131 := nX_ne (by decide)
    rw [e18, e8]
    have ht := hVT.2.1
    have ht0 := hVT.2.2.1
    have ht6 := hVT.2.2.2.1
    have hv8 := hVT.2.2.2.2.1
    have hrr : r = -1 ∨ (0 ≤ r ∧ r < Mx 124 (Mx 1 18)) := by
      have := vrr_r hVT (v := Mq 151 a)
      rw [← hr, ht, hv8.2.2] at this; exact this
    have w1 : w32 (w32 (8 * Mx 1 18) + r) = 8 * Mx 1 18 + r := by
      have e := hv8.2.1
      rw [w32_id (x := 8 * Mx 1 18) (by omega) (by omega), w32_id (by omega) (by omega)]
    rw [w1]
    have hfl := ER_fl hER1
    have hiX1 := ER_iX hER1
    have e31 : nX_ Mx 1 3 = a + 1 := hER1.2.1
    -- behind the name, its note of no such one
    have at70 : ∀ (M2 : mm_) (ar : Int), ar = ar_ Mq r → (M2 = if b = 0 ∨ r ≠ -1 then nX_ Mx else nt1_ (nX_ Mx) 4 a) → V 70 [rr 1, ii (Mx 1 7), ii a, ii r, ii (8 * Mx 1 18 + r), ii ar, none] [] M2 := by
      intro M2 ar har hM2
      refine b_155_70 (Tr_mono _) hV hW _ _ _ _ _ M2 ?_
      have m1 : ∀ i : Int, i ≠ 4 → i ≠ 5 → i ≠ 7 → M2 1 i = nX_ Mx 1 i := by
        intro i x y z
        rw [hM2]; split
        · rfl
        · exact nt1_1 x y z
      have m70 : M2 70 = Mx 70 := by
        rw [hM2]; split
        · exact nX_ne (by decide)
        · rw [nt1_r (by decide)]; exact nX_ne (by decide)
      have m3 : M2 1 3 = a + 1 := by rw [m1 3 (by decide) (by decide) (by decide)]; exact e31
      have m8 : M2 1 8 = b := by rw [m1 8 (by decide) (by decide) (by decide)]; exact e8
      have hiM : iX_ M2 := by unfold iX_; rw [m3]; omega
      have rest : ∀ v1 : Int, v1 = idx → (bl_ (M2 1 8) → (if M2 1 8 = 0 then V 103 [rr 1, ii (Mx 1 7), ii a, ii r, ii (8 * Mx 1 18 + r), ii ar, ii v1] [] M2 else (if r = (-1) then V 103 [rr 1, ii (Mx 1 7), ii a, ii r, ii (8 * Mx 1 18 + r), ii ar, ii v1] [] M2 else (if ar = v1 then V 103 [rr 1, ii (Mx 1 7), ii a, ii r, ii (8 * Mx 1 18 + r), ii ar, ii v1] [] M2 else Tr_ wd0 pg0 (D + 5) 116 [.inr (.inr 1), .inl 5, .inl a] M2 (rv_ fun M2 => V 103 [rr 1, ii (Mx 1 7), ii a, ii r, ii (8 * Mx 1 18 + r), ii ar, ii v1] [] M2) Qt)))) := by
        intro v1 hv1 _
        rw [hv1, m8, har]
        rcases hb01 with hb | hb
        · rw [if_pos hb]
          rw [if_pos (.inl hb)] at hM2
          unfold Xn_ at h9
          rw [if_pos (.inl hb)] at h9
          rw [hM2]; exact h9
        · rw [if_neg (by omega)]
          rcases hrr with h | h
          · rw [if_pos h]
            rw [if_neg (by omega)] at hM2
            have ek : kn_ Mq r idx = 4 := by unfold kn_; rw [if_pos h]
            rw [ek] at h9
            unfold Xn_ at h9
            rw [if_neg (by omega)] at h9
            rw [hM2]; exact h9
          · rw [if_neg (by omega)]
            rw [if_pos (.inr (by omega))] at hM2
            have hne : ¬ r = -1 := by omega
            have ek : kn_ Mq r idx = if ar_ Mq r = idx then 0 else 5 := by unfold kn_ ar_; rw [if_neg hne, if_neg hne]
            rw [ek] at h9
            by_cases c1 : ar_ Mq r = idx
            · rw [if_pos c1]
              rw [if_pos c1] at h9
              unfold Xn_ at h9
              rw [if_pos (.inr rfl)] at h9
              rw [hM2]; exact h9
            · rw [if_neg c1]
              rw [if_neg c1] at h9
              unfold Xn_ at h9
              rw [if_neg (by omega)] at h9
              rw [hM2]
              exact x_116 ha.1 (by omega) hfl.1 hfl.2 h9
      refine x_117 hiM (by decide) (by decide) (fun g => ?_) (fun g => ?_)
      · rw [m3, m70] at g
        refine rest 1 ?_
        rcases hidx with h | h
        · exact h.2.symm
        · exact absurd g h.1
      · rw [m3, m70] at g
        refine rest 0 ?_
        rcases hidx with h | h
        · exact absurd h.1 g
        · exact h.2.symm
    have note : ∀ ar : Int, ar = ar_ Mq r → (bl_ b → (if b = 0 then V 70 [rr 1, ii (Mx 1 7), ii a, ii r, ii (8 * Mx 1 18 + r), ii ar, none] [] (nX_ Mx) else (if r = (-1) then Tr_ wd0 pg0 (D + 5) 116 [.inr (.inr 1), .inl 4, .inl a] (nX_ Mx) (rv_ fun M3 => V 70 [rr 1, ii (Mx 1 7), ii a, ii r, ii (8 * Mx 1 18 + r), ii ar, none] [] M3) Qt else V 70 [rr 1, ii (Mx 1 7), ii a, ii r, ii (8 * Mx 1 18 + r), ii ar, none] [] (nX_ Mx)))) := by
      intro ar har _
      rcases hb01 with hb | hb
      · rw [if_pos hb]; exact at70 _ ar har (by rw [if_pos (.inl hb)])
      · rw [if_neg (by omega)]
        by_cases c1 : r = -1
        · rw [if_pos c1]
          exact x_116 ha.1 (by omega) hfl.1 hfl.2 (at70 _ ar har (by rw [if_neg (by omega)]))
        · rw [if_neg c1]; exact at70 _ ar har (by rw [if_pos (.inr c1)])
    rcases hrr with h | h
    · rw [if_pos h]
      exact note 0 (by unfold ar_; rw [if_pos h])
    · rw [if_neg (by omega), e131]
      refine ⟨e2, by have := hv8.2.1; omega, ?_⟩
      have hsz := (hVT.2.2.2.2.2.2.1 r h.1 h.2).2.2.2.1
      have har : ar_ Mq r = if Mx 131 (8 * Mx 1 18 + r) ≤ 0 then 0 else 1 := by unfold ar_; rw [if_neg (show ¬ r = -1 by omega), ht, hsz]
      by_cases c1 : Mx 131 (8 * Mx 1 18 + r) ≤ 0
      · rw [if_pos c1]
        rw [if_pos c1] at har
        exact note 0 har.symm
      · rw [if_neg c1]
        rw [if_neg c1] at har
        exact note 1 har.symm
  · rw [h3] at h12 ⊢
    have hb : b = 0 := by
      rcases hb01 with h | h
      · exact h
      · exact absurd (hS h) (by omega)
    have hok := ER_ok hER hb
    have e12 : Mq 6 12 = 1200 := by rw [hER.2.2.1]; exact h12
    refine hQ hb _ (XW_i (v := 1) hgo fl_XF fun K Qt q => ?_)
    refine q_272o (k := 100) (a := a) ⟨by rw [hER.2.2.1]; omega, by rw [hER.2.2.1]; omega⟩ hER.2.2.1 hKQ ⟨by decide, by decide, by decide⟩ ?_
    rw [if_pos t149]
    refine q_275r (d := dq + 5) e12 hok (by rw [← h12]; exact t149) ⟨.inr rfl, ri_i (q _ (bf_sp hok.2 (by decide)) ?_ ?_ ?_ bf_QF)⟩
    · unfold in9_; rw [bf_6 (by decide) (by decide), e12]; omega
    · rw [bf_13, fl_4]
    · refine ⟨?_, fl_b7 hER⟩; rw [bf_14, fl_5, ← h12]; exact (hT a hER.1).2.1.symm
end VX
end T91_er
section T92_er
/-! first: a variable without brackets -/
section V0
variable {dq D n d : Nat} {b F : Int} {Mx Mq Mx' Mq' M : mm_} {a o : Int} {sg : List (Int × Int)} {ws : List (Int × Int × Int)} {c : Int} {cm : List Int} {f : Int} {fm : List (Int × Int)} {cc : Int} {cd : List Int} {K : Int → mm_ → Prop} {Kv : mm_ → Prop} {Qr : qr_} {Qt : qt_} {V : vv_}
def ts9_ (Mq : mm_) (r : Int) : Int := if r = -1 then 0 else Mq 182 (8 * Mq 6 61 + r)
theorem vt_at [Inhabited gh_] (hVT : VT Mx Mq) {r : Int} (h0 : 0 ≤ r) (h1 : r < Mx 124 (Mx 1 18)) : Mx 130 (8 * Mx 1 18 + r) + 1 = Mq 182 (8 * Mq 6 61 + r) ∧ Mx 131 (8 * Mx 1 18 + r) = Mq 183 (8 * Mq 6 61 + r) ∧ Mx 132 (8 * Mx 1 18 + r) = Mq 184 (8 * Mq 6 61 + r) ∧ 1 ≤ Mq 182 (8 * Mq 6 61 + r) ∧ Mq 182 (8 * Mq 6 61 + r) ≤ 3 ∧ 0 ≤ Mq 183 (8 * Mq 6 61 + r) ∧ 0 ≤ 8 * Mx 1 18 + r ∧ 8 * Mx 1 18 + r < 48 := by
  have h := hVT.2.2.2.2.2.2.1 r h0 h1
  have ht := hVT.2.1
  have ht0 := hVT.2.2.1
  have ht6 := hVT.2.2.2.1
  have h8 := hVT.2.2.2.2.1.2.1
  rw [ht]
  obtain ⟨_, _, e1, e2, e3, e4, e5, e6⟩ := h
  exact ⟨e1, e2, e3, by omega, by omega, by omega, by omega, by omega⟩
theorem x_var0 [Inhabited gh_] (hR : PR b F Mx Mq a o sg ws c cm f fm cc cd) (hk : Mx 70 a = 100) (hk1 : Mx 70 (a + 1) ≠ 291) (hS : b = 1 → a < 1200) (hES : a < 1200 → ES (Mx 70) 6 o a = some (a + 1)) (hK : FK n dq 6 b F Mx Mq a o sg ws c cm f fm cc cd K) (hQ : b = 0 → ∀ Mx', XW dq 0 Mx Mq Mx' → Qt 8 Mx') : Tr_ wd0 pg0 (D + 6) 155 [.inr (.inr 1)] Mx (ri_ K) Qt := by
  refine x_155 (r := vrr Mq (Mq 151 a)) (idx := 0) hR hk hS rfl (.inr ⟨hk1, rfl⟩) (fun h12 V hV hW => ?_) hQ
  generalize hr : vrr Mq (Mq 151 a) = r
  have hR9 := hR
  obtain ⟨hT, hVT, hER, hQE, hXE, hL⟩ := hR9
  have ha := ER_a hER
  have hgo := ER_goq hER
  have hb01 := hER.2.2.2.2.2.2.2.2.1
  have hKQ := (hT a hER.1).1
  rw [hk] at hKQ
  have t149 : Mq 149 a = 1 := by unfold KQ at hKQ; omega
  obtain ⟨hER1, hst1, hfb1⟩ := ER_go hER h12 (by rw [hk]; decide)
  have g1 : gd_ Mx (a + 1) := gd_c (nX_ne (r := 70) (by decide)).symm hER1.1
  have hKQ1 := (hT (a + 1) g1).1
  have hp := tk_p hT hER.1
  have e71 : nX_ Mx 71 = Mx 71 := nX_ne (by decide)
  have hEN := ER_n (k := kn_ Mq r 0) (tk := a) hER1 kn_r (by rw [e71]; exact hp) (by omega)
  rw [e71] at hEN
  generalize hXn : Xn_ (nX_ Mx) b (kn_ Mq r 0) a = M1 at hEN ⊢
  generalize hQn : Qn_ (nx_ Mq) b (kn_ Mq r 0) (Mx 71 a) = N1 at hEN
  obtain ⟨hE1, hN0, hN1⟩ := hEN
  have hX1 : XF Mx M1 := by rw [← hXn]; exact XF_tr nX_XF Xn_XF
  have hQ1 : QF Mq N1 := by rw [← hQn]; exact QF_tr nx_QF Qn_QF
  have hQE1 : QE N1 sg ws (c :: cm) f fm := by rw [← hQn]; exact Qn_QE (nx_QE hQE)
  have m53 : M1 5 3 = Mx 5 3 := by rw [← hXn, Xn_r (by decide), nX_ne (by decide)]
  have mXE : XE M1 cc cd := XE_c m53 (by rw [← hXn, Xn_r (by decide), nX_ne (by decide)]) hXE
  have m2 : M1 1 2 = 5 := by rw [← hXn, Xn_1 (by decide) (by decide) (by decide), nX_1 (by decide)]; exact hVT.1
  have m8 : M1 1 8 = b := hE1.2.2.2.2.2.2.1
  have mr : ∀ q : Nat, q ≠ 1 → M1 q = Mx q := fun q h => by rw [← hXn, Xn_r h, nX_ne h]
  have n7 : nX_ Mx 1 7 = Mx 1 7 := nX_1 (by decide)
  have ht := hVT.2.1
  have hv8 := hVT.2.2.2.2.1
  have hrr : r = -1 ∨ (0 ≤ r ∧ r < Mx 124 (Mx 1 18)) := by
    have := vrr_r hVT (v := Mq 151 a)
    rw [hr, ht, hv8.2.2] at this; exact this
  have stb := ER_st2 hER
  -- bad or not
  have hkn : kn_ Mq r 0 = if r = -1 then 4 else if Mq 183 (8 * Mq 6 61 + r) ≤ 0 then 0 else 5 := by
    unfold kn_
    by_cases c1 : r = -1
    · rw [if_pos c1, if_pos c1]
    · rw [if_neg c1, if_neg c1]
      by_cases c2 : Mq 183 (8 * Mq 6 61 + r) ≤ 0
      · rw [if_pos c2, if_pos c2, if_pos rfl]
      · rw [if_neg c2, if_neg c2, if_neg (by decide)]
  generalize hbd : (if kn_ Mq r 0 = 0 then (0 : Int) else 1) = bd
  have hbd01 : bd = 0 ∨ bd = 1 := by rw [← hbd]; split; exact .inl rfl; exact .inr rfl
  have hbd0 : bd = 0 → kn_ Mq r 0 = 0 := fun h => by rw [← hbd] at h; split at h; assumption; omega
  have hbd1 : bd = 1 → kn_ Mq r 0 ≠ 0 := fun h => by rw [← hbd] at h; split at h; omega; assumption
  have good : bd = 0 → (0 ≤ r ∧ r < Mx 124 (Mx 1 18)) ∧ Mq 183 (8 * Mq 6 61 + r) ≤ 0 := by
    intro h
    have := hbd0 h
    rw [hkn] at this
    rcases hrr with h9 | h9
    · rw [if_pos h9] at this; omega
    · rw [if_neg (show ¬ r = -1 by omega)] at this
      split at this
      · exact ⟨h9, by assumption⟩
      · omega
  have hm7 : Mx 1 7 ≤ M1 1 7 ∧ M1 1 7 ≤ Mx 1 7 + 1 ∧ (b = 0 ∨ kn_ Mq r 0 = 0 → M1 1 7 = Mx 1 7) ∧ (b = 1 → kn_ Mq r 0 ≠ 0 → M1 1 7 = Mx 1 7 + 1) := by
    by_cases c1 : b = 0 ∨ kn_ Mq r 0 = 0
    · have e : M1 1 7 = Mx 1 7 := by rw [(hN0 c1).1]; exact n7
      exact ⟨by omega, by omega, fun _ => e, fun h1 h2 => by omega⟩
    · have e : M1 1 7 = Mx 1 7 + 1 := by rw [(hN1 (by omega) (by omega)).1, n7]
      exact ⟨by omega, by omega, fun h => absurd h c1, fun _ _ => e⟩
  -- Q's way
  have hQway : ∀ M', Ex9 dq (ad_ (pu_ N1 11 (vq_ Mq r)) (ts9_ Mq r) (Mx 71 a) bd) M' → Rq dq 0 Mq 1 M' := by
    intro M' hex
    refine Rq_272 hgo fun K Qt hk9 => ?_
    refine q_272o (k := 100) (a := a) ⟨by rw [hER.2.2.1]; omega, by rw [hER.2.2.1]; omega⟩ hER.2.2.1 hKQ ⟨by decide, by decide, by decide⟩ ?_
    rw [if_pos t149]
    have e150 : Mq 150 a = Mx 71 a := (hT a hER.1).2.1.symm
    rw [e150]
    refine q_275 (d := dq + 5) (b := b) (r := r) (idx := 0) hVT hER.2.2.1 ha.1 h12 hgo t149 hER.2.2.2.2.2.2.2.1 hb01 hr.symm (.inr ⟨?_, rfl⟩) (fun V hV hW => ?_)
    · unfold KQ at hKQ1; omega
    · rw [hQn]
      refine b_275_90 (Tr_mono _) hV hW _ _ _ _ N1 ?_
      rw [if_pos rfl]
      have e104 : N1 6 104 = f + fm.length := hQE1.2.2.2.2.2.2.1
      have hff := hL.2.2.2.2.2.2.2.2
      have hf0 := hL.2.2.2.2.2.2.2.1
      refine q_277 (by rw [e104]; omega) (by rw [e104]; omega) ?_
      have e116 : pu_ N1 11 (vq_ Mq r) 6 116 = ws.length := by rw [pu_6 (by decide)]; exact hQE1.2.2.1
      have hwl := hL.2.2.2.2.2.2.1
      have fin : ∀ t bb : Int, t = ts9_ Mq r → bb = bd → Tr_ wd0 pg0 (dq + 8) 278 [.inr (.inr 6), .inl t, .inl (Mx 71 a), .inl bb] (pu_ N1 11 (vq_ Mq r)) (rv_ fun M5 => bl_ 1 ∧ ri_ (fun v6 M9 => bl_ v6 ∧ ri_ K [.inl v6] M9) [.inl 1] M5) Qt := by
        intro t bb h1 h2
        rw [h1, h2]
        exact q_278 (by rw [e116]; omega) (by rw [e116]; omega) hbd01 (Ex9_l hex (by omega) ⟨.inr rfl, ri_i ⟨.inr rfl, ri_i hk9⟩⟩)
      have n182 : pu_ N1 11 (vq_ Mq r) 182 = Mq 182 := QF_r (QF_tr hQ1 pu_QF) (by decide) (by decide)
      have n183 : pu_ N1 11 (vq_ Mq r) 183 = Mq 183 := QF_r (QF_tr hQ1 pu_QF) (by decide) (by decide)
      rw [n182, n183]
      rcases hrr with h | h
      · have ev : vq_ Mq r = -1 := by unfold vq_; rw [if_pos h]
        have et : (0 : Int) = ts9_ Mq r := by unfold ts9_; rw [if_pos h]
        have eb : (1 : Int) = bd := by
          have e0 : kn_ Mq r 0 = 4 := by rw [hkn, if_pos h]
          rw [← hbd, if_neg (by rw [e0]; decide)]
        rw [ev] at fin ⊢
        rw [if_pos (by decide), if_pos (by decide)]
        exact fin 0 1 et eb
      · have hva := vt_at hVT h.1 h.2
        have ev : vq_ Mq r = 8 * Mq 6 61 + r := by unfold vq_; rw [if_neg (by omega)]
        have et : Mq 182 (8 * Mq 6 61 + r) = ts9_ Mq r := by unfold ts9_; rw [if_neg (by omega)]
        rw [ht] at hva
        rw [ev, if_neg (by rw [ht]; omega), if_neg (by rw [ht]; omega)]
        rw [ev] at fin
        refine ⟨by rw [ht]; omega, by rw [ht]; omega, ?_⟩
        by_cases c1 : Mq 183 (8 * Mq 6 61 + r) ≤ 0
        · rw [if_pos c1]
          have e0 : kn_ Mq r 0 = 0 := by rw [hkn, if_neg (show ¬ r = -1 by omega), if_pos c1]
          exact fin _ 0 et (by rw [← hbd, if_pos e0])
        · rw [if_neg c1]
          have e0 : kn_ Mq r 0 = 5 := by rw [hkn, if_neg (show ¬ r = -1 by omega), if_neg c1]
          exact fin _ 1 et (by rw [← hbd, if_neg (by rw [e0]; decide)])
  -- what X leaves
  have fin : ∀ (w s : Int), (b = 1 → bd = 0 → w = Mq 184 (vq_ Mq r)) → (b = 1 → bd = 0 → s = ts9_ Mq r - 1) → (b = 1 → bd = 1 → s = -1) → K s (pX_ (pX_ M1 8) w) := by
    intro w s hw hs0 hs1
    have hE2 := pX_2 m8 hb01 8 w mXE
    have p53 : pX_ M1 8 5 3 ≤ M1 5 3 + 1 := by
      unfold pX_; split
      · omega
      · rw [up_at]; omega
    have hst : Mx 5 3 ≤ 9 * a + 1000 := hER.2.2.2.2.2.2.2.2.2.2.2.2.2.2
    have hER3 : ER b F (pX_ (pX_ M1 8) w) (ad_ (pu_ N1 11 (vq_ Mq r)) (ts9_ Mq r) (Mx 71 a) bd) (a + 1) o := by
      refine ER_Q (Mq := N1) (ER_pX (ER_pX hE1 (by omega)) (by omega)) ?_ ?_ ?_ ?_ ?_
      all_goals rw [ad_6 (by decide), pu_6 (by decide)]
    have m7 : pX_ (pX_ M1 8) w 1 7 = M1 1 7 := by rw [pX_1, pX_1]
    have hmono := (hT (a + 1) g1).2.2.2.2.1 a hER.1 (by omega)
    have hP := EP_atom (need := nU n (ts9_ Mq r)) (t := ts9_ Mq r) (s := s) (x := (11, vq_ Mq r)) (y := if b = 0 then [] else [w, 8]) hT (by omega) (XF_tr hX1 (XF_tr pX_XF pX_XF)) (QF_tr hQ1 (QF_tr pu_QF ad_QF)) hER3 (ad_QE (pu_QE hQE1)) hbd01 hE2 (fun h => by rw [if_pos h]) (fun h h' => by rw [if_neg (by omega), hw h h']; rfl) (by split <;> simp) (by rw [m7]; omega) (by rw [m7]; omega) (fun h h' => ?_) (fun h h' => ⟨hs1 h h', by rw [m7]; have := hm7.2.2.2 h (hbd1 h'); omega, ?_⟩) (by unfold nU; split <;> omega)
    · exact hK s _ _ (a + 1) _ _ bd _ hP.1 hP.2 hQway (hES h12)
    · have hg := good h'
      have hva := vt_at hVT hg.1.1 hg.1.2
      have et : ts9_ Mq r = Mq 182 (8 * Mq 6 61 + r) := by unfold ts9_; rw [if_neg (by omega)]
      have ev : vq_ Mq r = 8 * Mq 6 61 + r := by unfold vq_; rw [if_neg (by omega)]
      refine ⟨hs0 h h', by rw [et]; exact hva.2.2.2.1, by rw [et]; exact hva.2.2.2.2.1, by rw [m7]; exact hm7.2.2.1 (.inr (hbd0 h')), ?_, fun st => ?_⟩
      · unfold fqq_; rw [ad_6 (by decide), ad_6 (by decide), pu_6 (by decide), pu_6 (by decide), (hN0 (.inr (hbd0 h'))).2, nx_6 (by decide), nx_6 (by decide)]
      · refine .inr (.inr (.inr (.inr (.inl ⟨rfl, ?_, ?_, ?_, ?_⟩))))
        · rw [ev]; omega
        · rw [ev]
          have e171 : Mq 171 (Mq 6 61) = Mx 124 (Mx 1 18) := by rw [ht]; exact hv8.2.2
          rw [e171]; omega
        · rw [ev]; show Mq 183 (8 * Mq 6 61 + r) = 0; have h9 := hva.2.2.2.2.2.1; have h8 := hg.2; omega
        · show ts9_ Mq r :: st = Mq 182 (vq_ Mq r) :: st
          rw [et, ev]
    · rw [ad_6 (by decide), ad_6 (by decide), pu_6 (by decide), pu_6 (by decide)]
      have := (hN1 h (hbd1 h')).2
      omega
  have at221 : ∀ w : Int, (b = 1 → bd = 0 → w = Mq 184 (vq_ Mq r)) → V 221 [rr 1, ii (Mx 1 7), ii a, ii r, ii (8 * Mx 1 18 + r), ii (ar_ Mq r), ii 0] [] (pX_ (pX_ M1 8) w) := by
    intro w hw
    refine b_155_221 (Tr_mono _) hV hW _ _ _ _ _ _ _ ?_
    have m7 : pX_ (pX_ M1 8) w 1 7 = M1 1 7 := by rw [pX_1, pX_1]
    by_cases c1 : r = -1
    · rw [if_pos c1]
      refine ri_i (fin w (-1) hw (fun _ h => ?_) (fun _ _ => rfl))
      have := (good h).1; omega
    · rw [if_neg c1]
      have h := hrr.resolve_left c1
      have hva := vt_at hVT h.1 h.2
      have e130 : pX_ (pX_ M1 8) w 130 = Mx 130 := by rw [pX_r (by decide) (by decide), pX_r (by decide) (by decide), mr 130 (by decide)]
      rw [m7, e130]
      by_cases c2 : M1 1 7 ≤ Mx 1 7
      · rw [if_pos c2]
        refine ⟨by rw [pX_1, pX_1]; exact m2, ⟨hva.2.2.2.2.2.2.1, hva.2.2.2.2.2.2.2⟩, ri_i (fin w _ hw (fun _ _ => ?_) (fun hb h9 => ?_))⟩
        · unfold ts9_; rw [if_neg c1]; omega
        · have := hm7.2.2.2 hb (hbd1 h9); omega
      · rw [if_neg c2]
        refine ri_i (fin w (-1) hw (fun hb h9 => ?_) (fun _ _ => rfl))
        have := hm7.2.2.1 (.inr (hbd0 h9)); omega
  refine b_155_103 (Tr_mono _) hV hW _ _ _ _ _ _ M1 ?_
  rw [if_pos rfl]
  have p53 : pX_ M1 8 5 3 = M1 5 3 ∨ pX_ M1 8 5 3 = M1 5 3 + 1 := by
    unfold pX_; split
    · exact .inl rfl
    · exact .inr (by rw [up_at])
  refine x_138 m2 (by omega) (by omega) ?_
  by_cases c1 : r = -1
  · rw [if_pos c1]
    refine x_138 (by rw [pX_1]; exact m2) (by rcases p53 with e | e <;> omega) (by rcases p53 with e | e <;> omega) (at221 0 (fun _ h => ?_))
    have := (good h).1; omega
  · rw [if_neg c1]
    have h := hrr.resolve_left c1
    have hva := vt_at hVT h.1 h.2
    have e132 : pX_ M1 8 132 = Mx 132 := by rw [pX_r (by decide) (by decide), mr 132 (by decide)]
    rw [e132]
    refine ⟨by rw [pX_1]; exact m2, ⟨hva.2.2.2.2.2.2.1, hva.2.2.2.2.2.2.2⟩, ?_⟩
    refine x_138 (by rw [pX_1]; exact m2) (by rcases p53 with e | e <;> omega) (by rcases p53 with e | e <;> omega) (at221 _ (fun _ _ => ?_))
    have ev : vq_ Mq r = 8 * Mq 6 61 + r := by unfold vq_; rw [if_neg c1]
    rw [ev]; exact hva.2.2.1
end V0
end T92_er
section T93_er
/-! first: a variable with brackets -/
section VI
variable {dq D n d : Nat} {b F : Int} {Mx Mq Mx' Mq' M : mm_} {a o : Int} {sg : List (Int × Int)} {ws : List (Int × Int × Int)} {c : Int} {cm : List Int} {f : Int} {fm : List (Int × Int)} {cc : Int} {cd : List Int} {K : Int → mm_ → Prop} {Kv : mm_ → Prop} {Qr : qr_} {Qt : qt_} {V : vv_}
theorem kn_1 [Inhabited gh_] {r : Int} : kn_ Mq r 1 = if r = -1 then 4 else if Mq 183 (8 * Mq 6 61 + r) ≤ 0 then 5 else 0 := by
  unfold kn_
  by_cases c1 : r = -1
  · rw [if_pos c1, if_pos c1]
  · rw [if_neg c1, if_neg c1]
    by_cases c2 : Mq 183 (8 * Mq 6 61 + r) ≤ 0
    · rw [if_pos c2, if_pos c2, if_neg (by decide)]
    · rw [if_neg c2, if_neg c2, if_pos rfl]
/-- X's and Q's memories behind a closing ] -/
def xI_ (M : mm_) (s o t w1 w2 : Int) : mm_ := pX_ (pX_ (pX_ (up_ (nX_ (hX_ M s 0 t)) 1 6 o) 9) w1) w2
def qI_ (M : mm_) (o : Int) (x : Int × Int × Int) (v t p bd : Int) : mm_ := ad_ (pu_ (aM_ (cl5_ M (o + 1)) x 1) 12 v) t p bd
theorem EP_idx [Inhabited gh_] {a1 s1 t1 bd1 c' r w1 w2 s bdF : Int} {M1 N1 Mx2 Mq2 Mx1 Ms : mm_} {y : List Int} {l : List (Int × Int)} (hR : PR b F Mx Mq a o sg ws c cm f fm cc cd) (ho : 0 ≤ o ∧ o < 12) (hrr : r = -1 ∨ (0 ≤ r ∧ r < Mx 124 (Mx 1 18))) (hX1 : XF Mx M1) (hQ1 : QF Mq N1) (hX2 : XF M1 Mx2) (hQ2 : QF N1 Mq2) (h7 : Mx2 1 7 = M1 1 7) (hfq : fqq_ Mq2 = fqq_ N1)
    (hm7 : Mx 1 7 ≤ M1 1 7 ∧ M1 1 7 ≤ Mx 1 7 + 1 ∧ (b = 0 ∨ kn_ Mq r 1 = 0 → M1 1 7 = Mx 1 7 ∧ fqq_ N1 = fqq_ Mq) ∧ (b = 1 → kn_ Mq r 1 ≠ 0 → M1 1 7 = Mx 1 7 + 1 ∧ kk_ (N1 6 13) (N1 6 14) ≤ 8 * Mx 71 a + 5)) (hg2 : gd_ Mx (a + 2))
    (hP : EP (nE n t1) b F Mx2 Mq2 Mx1 Ms (a + 2) a1 (o + 1) ((2, a) :: sg) ws c' (c :: cm) f fm cc cd y s1 t1 bd1 l) (hs : b = 1 → bd1 = 1 → s1 = -1) (ha1 : a1 < 1200) (hk : Mx 70 a1 = 293)
    (hbdF : bdF = if kn_ Mq r 1 = 0 ∧ bd1 = 0 ∧ t1 = 1 then 0 else 1) (hw1 : b = 1 → bdF = 0 → w1 = Mq 184 (vq_ Mq r)) (hw2 : b = 1 → bdF = 0 → w2 = Mq 183 (vq_ Mq r)) (hs0 : b = 1 → bdF = 0 → s = ts9_ Mq r - 1) (hs1 : b = 1 → bdF = 1 → s = -1) :
    EP (nU (n + 1) (ts9_ Mq r)) b F Mx Mq (xI_ Mx1 s1 o (a + 2) w1 w2) (qI_ Ms o (t1, Mx 71 (a + 2), bd1) (vq_ Mq r) (ts9_ Mq r) (Mx 71 a) bdF) a (a1 + 1) o sg ws c cm f fm cc cd (if b = 0 then [] else w2 :: w1 :: 9 :: y) s (ts9_ Mq r) bdF ((12, vq_ Mq r) :: l) ∧ (b = 1 → (bdF = 0 ↔ xI_ Mx1 s1 o (a + 2) w1 w2 1 7 ≤ Mx 1 7)) := by
  obtain ⟨u1, u2, u3, u4, u5, u6, u7, ⟨u8, u9, u10, u11⟩, ⟨u12, u13⟩, u14, u15⟩ := hP
  obtain ⟨hT, hVT, hER, hQE, hXE, hL⟩ := hR
  have hb01 := hER.2.2.2.2.2.2.2.2.1
  have hXb : XF Mx Mx1 := XF_tr hX1 (XF_tr hX2 u2)
  have hX2' : XF Mx Mx2 := XF_tr hX1 hX2
  have hQ2' : QF Mq Mq2 := QF_tr hQ1 hQ2
  have hQb : QF Mq Ms := QF_tr hQ2' u3
  have h71 : Mx1 71 = Mx 71 := XF_70 hXb (by decide) (by decide) (by decide)
  have h712 : Mx2 71 = Mx 71 := XF_70 hX2' (by decide) (by decide) (by decide)
  have h70 : Mx1 70 = Mx 70 := XF_70 hXb (by decide) (by decide) (by decide)
  rw [h712] at u5 u14
  have hp2 := tk_p hT hg2
  have hbdF01 : bdF = 0 ∨ bdF = 1 := by rw [hbdF]; split; exact .inl rfl; exact .inr rfl
  -- X: the sort of what is in the brackets
  have hc := hX_c (M := Mx1) s1 0 (a + 2) u4.2.2.2.2.2.2.1 hb01
  have x2 : b = 1 → ((s1 = -1 ∨ s1 = 0) ↔ ¬ (bd1 = 0 ∧ t1 ≠ 1)) := by
    intro hb
    rcases u6 with h | h
    · have := (u14 hb).1 h
      constructor <;> intro h9 <;> omega
    · have h2 := hs hb h
      exact ⟨fun _ h9 => by omega, fun _ => .inl h2⟩
  have hfl : hX_ Mx1 s1 0 (a + 2) 1 7 = Mx1 1 7 ∨ hX_ Mx1 s1 0 (a + 2) 1 7 = Mx1 1 7 + 1 := by
    rcases hc with h | h
    · rw [h.1]; exact .inl rfl
    · rw [h.2.2.2, nt1_7]; exact .inr rfl
  have hE1 : ER b F (hX_ Mx1 s1 0 (a + 2)) (aM_ Ms (t1, Mx 71 (a + 2), bd1) 1) a1 (o + 1) ∧ (b = 1 → kk_ (aM_ Ms (t1, Mx 71 (a + 2), bd1) 1 6 13) (aM_ Ms (t1, Mx 71 (a + 2), bd1) 1 6 14) ≤ kk_ (Ms 6 13) (Ms 6 14) ∧ (bd1 = 0 ∧ t1 ≠ 1 → kk_ (aM_ Ms (t1, Mx 71 (a + 2), bd1) 1 6 13) (aM_ Ms (t1, Mx 71 (a + 2), bd1) 1 6 14) ≤ 8 * Mx 71 (a + 2) + 5)) := by
    rcases hc with h | h
    · have e2 : aM_ Ms (t1, Mx 71 (a + 2), bd1) 1 = Ms ∨ b = 0 := by
        rcases hb01 with hb | hb
        · exact .inr hb
        · left
          have h9 : ¬ (bd1 = 0 ∧ t1 ≠ 1) := (x2 hb).mp (by rcases h.2 with h8 | h8; omega; exact h8)
          unfold aM_; rw [if_neg h9]
      rw [h.1]
      rcases e2 with e2 | hb
      · rw [e2]
        refine ⟨u4, fun hb => ⟨Int.le_refl _, fun h9 => ?_⟩⟩
        have := (x2 hb).mp (by rcases h.2 with h8 | h8; omega; exact h8)
        exact absurd h9 this
      · have e3 : aM_ Ms (t1, Mx 71 (a + 2), bd1) 1 = Ms := by
          unfold aM_; split
          · unfold nt_; rw [if_pos (by rw [u4.2.2.2.2.2.2.2.1]; exact hb)]
          · rfl
        rw [e3]
        exact ⟨u4, fun hb1 => by omega⟩
    · have hb := h.1
      have h9 : bd1 = 0 ∧ t1 ≠ 1 := Classical.byContradiction fun h8 => by
        rcases (x2 hb).mpr h8 with h7 | h7
        · exact h.2.1 h7
        · exact h.2.2.1 h7
      have e2 : aM_ Ms (t1, Mx 71 (a + 2), bd1) 1 = nt_ Ms 5 (Mx 71 (a + 2)) := by unfold aM_; rw [if_pos h9]
      have hb0 := hER.2.2.2.2.2.2.2.2.2.2.2.2.1
      have hnt := ER_nt (k := 5) (t := a + 2) (p := Mx 71 (a + 2)) u4 hb (by decide) (by rw [h71]) hp2 (by have := hm7.2.1; omega)
      rw [h.2.2.2, e2]
      refine ⟨hnt.1, fun _ => ⟨?_, fun _ => hnt.2⟩⟩
      have hq2 := u4.2.2.2.2.2.2.2.2.2.2.1.2.1
      have hfq9 : fqq_ (nt_ Ms 5 (Mx 71 (a + 2))) = np_ 1 (fqq_ Ms) 5 (Mx 71 (a + 2)) := by rw [nt_fq, u4.2.2.2.2.2.2.2.1, hb]
      have k2 := kk_np (q := fqq_ Ms) (k := 5) (p := Mx 71 (a + 2)) hq2 (by decide) (by decide) hp2.1 hp2.2
      have f13 : nt_ Ms 5 (Mx 71 (a + 2)) 6 13 = (np_ 1 (fqq_ Ms) 5 (Mx 71 (a + 2))).1 := congrArg Prod.fst hfq9
      have f14 : nt_ Ms 5 (Mx 71 (a + 2)) 6 14 = (np_ 1 (fqq_ Ms) 5 (Mx 71 (a + 2))).2 := congrArg Prod.snd hfq9
      rw [f13, f14, k2.1]
      have : kk_ (fqq_ Ms).1 (fqq_ Ms).2 = kk_ (Ms 6 13) (Ms 6 14) := rfl
      omega
  obtain ⟨hE1, hkq⟩ := hE1
  obtain ⟨g1, gst, gfb⟩ := ER_go hE1 ha1 (by rw [hX_r (by decide), h70, hk]; decide)
  have g2 := ER_o g1 (o' := o) ⟨ho.1, by omega⟩
  have n53 : up_ (nX_ (hX_ Mx1 s1 0 (a + 2))) 1 6 o 5 3 = Mx1 5 3 := by rw [up_ne (by decide), nX_ne (by decide), hX_r (by decide)]
  have gst' : Mx1 5 3 + 9 ≤ 9 * (a1 + 1) + 1000 := by have := gst; rw [nX_ne (by decide), hX_r (by decide)] at this; exact this
  have p1 : ∀ (M : mm_) (v : Int), pX_ M v 5 3 ≤ M 5 3 + 1 := by
    intro M v; unfold pX_; split
    · omega
    · rw [up_at]; omega
  have q1 := p1 (up_ (nX_ (hX_ Mx1 s1 0 (a + 2))) 1 6 o) 9
  have q2 := p1 (pX_ (up_ (nX_ (hX_ Mx1 s1 0 (a + 2))) 1 6 o) 9) w1
  have g3 := ER_pX (v := w2) (ER_pX (v := w1) (ER_pX (v := 9) g2 (by omega)) (by omega)) (by omega)
  have a6 : ∀ i : Int, i ≠ 12 → i ≠ 15 → i ≠ 104 → i ≠ 112 → i ≠ 116 → i ≠ 118 → i ≠ 13 → i ≠ 14 → qI_ Ms o (t1, Mx 71 (a + 2), bd1) (vq_ Mq r) (ts9_ Mq r) (Mx 71 a) bdF 6 i = Ms 6 i := by
    intro i h1 h2 h3 h4 h5 h6 h7 h8
    unfold qI_; rw [ad_6 h5, pu_6 h3, aM_6 h7 h8, cl5_6 h1 h2 h4 h5 h6]
  have ecl : ∀ i : Int, i = 13 ∨ i = 14 → qI_ Ms o (t1, Mx 71 (a + 2), bd1) (vq_ Mq r) (ts9_ Mq r) (Mx 71 a) bdF 6 i = aM_ Ms (t1, Mx 71 (a + 2), bd1) 1 6 i := by
    have hc13 : cl5_ Ms (o + 1) 6 13 = Ms 6 13 := cl5_6 (by decide) (by decide) (by decide) (by decide) (by decide)
    have hc14 : cl5_ Ms (o + 1) 6 14 = Ms 6 14 := cl5_6 (by decide) (by decide) (by decide) (by decide) (by decide)
    have hc16 : cl5_ Ms (o + 1) 6 16 = Ms 6 16 := cl5_6 (by decide) (by decide) (by decide) (by decide) (by decide)
    have e1 : fqq_ (aM_ (cl5_ Ms (o + 1)) (t1, Mx 71 (a + 2), bd1) 1) = fqq_ (aM_ Ms (t1, Mx 71 (a + 2), bd1) 1) := by
      rw [aM_fq, aM_fq, hc16]; unfold fqq_; rw [hc13, hc14]
    intro i hi
    rcases hi with h | h
    · rw [h]; unfold qI_; rw [ad_6 (by decide), pu_6 (by decide)]; exact congrArg Prod.fst e1
    · rw [h]; unfold qI_; rw [ad_6 (by decide), pu_6 (by decide)]; exact congrArg Prod.snd e1
  have hE3 : ER b F (xI_ Mx1 s1 o (a + 2) w1 w2) (qI_ Ms o (t1, Mx 71 (a + 2), bd1) (vq_ Mq r) (ts9_ Mq r) (Mx 71 a) bdF) (a1 + 1) o := by
    refine ER_Q g3 ?_ ?_ ?_ ?_ ?_
    · unfold qI_; rw [ad_6 (by decide), pu_6 (by decide), aM_6 (by decide) (by decide), cl5_12, up_off (by decide), nx_12, aM_6 (by decide) (by decide)]
    · rw [ecl 13 (.inl rfl), up_off (by decide), nx_6 (by decide)]
    · rw [ecl 14 (.inr rfl), up_off (by decide), nx_6 (by decide)]
    · unfold qI_; rw [ad_6 (by decide), pu_6 (by decide), aM_6 (by decide) (by decide), cl5_15, up_at]; omega
    · rw [a6 16 (by decide) (by decide) (by decide) (by decide) (by decide) (by decide) (by decide) (by decide), up_off (by decide), nx_6 (by decide), aM_6 (by decide) (by decide)]
  have hXX : XF Mx (xI_ Mx1 s1 o (a + 2) w1 w2) := XF_tr hXb (XF_tr hX_XF (XF_tr nX_XF (XF_tr oX_XF (XF_tr pX_XF (XF_tr pX_XF pX_XF)))))
  have hQQ : QF Mq (qI_ Ms o (t1, Mx 71 (a + 2), bd1) (vq_ Mq r) (ts9_ Mq r) (Mx 71 a) bdF) := QF_tr hQb (QF_tr cl5_QF (QF_tr aM_QF (QF_tr pu_QF ad_QF)))
  have hQE3 : QE (qI_ Ms o (t1, Mx 71 (a + 2), bd1) (vq_ Mq r) (ts9_ Mq r) (Mx 71 a) bdF) sg ((ts9_ Mq r, Mx 71 a, bdF) :: ws) (c :: cm) f (((12, vq_ Mq r) :: l) ++ fm) := ad_QE (pu_QE (aM_QE (cl5_QE u5)))
  have m7 : xI_ Mx1 s1 o (a + 2) w1 w2 1 7 = hX_ Mx1 s1 0 (a + 2) 1 7 := by unfold xI_; rw [pX_1, pX_1, pX_1, up_off (by decide), nX_1 (by decide)]
  have m8 : up_ (nX_ (hX_ Mx1 s1 0 (a + 2))) 1 6 o 1 8 = b := g2.2.2.2.2.2.2.1
  have mXE : XE (up_ (nX_ (hX_ Mx1 s1 0 (a + 2))) 1 6 o) cc (y ++ cd) := XE_c n53 (by rw [up_ne (by decide), nX_ne (by decide), hX_r (by decide)]) u8
  have hE4 : XE (xI_ Mx1 s1 o (a + 2) w1 w2) cc ((if b = 0 then [] else w2 :: w1 :: 9 :: y) ++ cd) := by
    unfold xI_
    rcases hb01 with h | h
    · rw [if_pos h, pX_0 (by rw [pX_1, pX_1, m8]; exact h), pX_0 (by rw [pX_1, m8]; exact h), pX_0 (by rw [m8]; exact h)]
      rw [u9 h] at mXE; exact mXE
    · rw [if_neg (by omega)]
      exact pX_E (by rw [pX_1, pX_1, m8]; omega) (pX_E (by rw [pX_1, m8]; omega) (pX_E (by rw [m8]; omega) mXE))
  have ga1 : gd_ Mx a1 := gd_c (XF_70 hXb (r := 70) (by decide) (by decide) (by decide)).symm u4.1
  have ga2 : gd_ Mx (a1 + 1) := gd_c (XF_70 hXX (r := 70) (by decide) (by decide) (by decide)).symm hE3.1
  have hmA := (hT (a1 + 1) ga2).2.2.2.2.1 a1 ga1 (by omega)
  have hmB := (hT (a1 + 1) ga2).2.2.2.2.1 (a + 2) hg2 (by omega)
  have hmC := (hT (a1 + 1) ga2).2.2.2.2.1 a hER.1 (by omega)
  have good : bdF = 0 → kn_ Mq r 1 = 0 ∧ bd1 = 0 ∧ t1 = 1 := fun h => by rw [hbdF] at h; split at h; assumption; omega
  have bad : bdF = 1 → ¬ (kn_ Mq r 1 = 0 ∧ bd1 = 0 ∧ t1 = 1) := fun h h9 => by rw [hbdF, if_pos h9] at h; omega
  have fl0 : b = 1 → bdF = 0 → hX_ Mx1 s1 0 (a + 2) 1 7 = Mx 1 7 := by
    intro hb h
    obtain ⟨k1, k2, k3⟩ := good h
    have e1 := (u14 hb).1 k2
    rcases hc with h9 | h9
    · rw [h9.1, e1.2.2.2.1, h7]; exact (hm7.2.2.1 (.inr k1)).1
    · exfalso; exact h9.2.2.1 (by omega)
  have fl1 : b = 1 → bdF = 1 → Mx 1 7 < hX_ Mx1 s1 0 (a + 2) 1 7 := by
    intro hb h
    have h9 := bad h
    by_cases k1 : kn_ Mq r 1 = 0
    · have e0 := (hm7.2.2.1 (.inr k1)).1
      rcases u6 with h8 | h8
      · rcases hc with h6 | h6
        · have := (x2 hb).mp (by rcases h6.2 with h5 | h5; omega; exact h5)
          exfalso; apply h9
          refine ⟨k1, h8, Classical.byContradiction fun h5 => this ⟨h8, h5⟩⟩
        · rw [h6.2.2.2, nt1_7]; omega
      · have := ((u14 hb).2 h8).2.1
        rcases hfl with h5 | h5 <;> omega
    · have e0 := (hm7.2.2.2 hb k1).1
      rcases hfl with h5 | h5 <;> omega
  refine ⟨⟨by omega, hXX, hQQ, hE3, hQE3, hbdF01, ?_, ⟨hE4, fun hb => by rw [if_pos hb], fun hb h => ?_, ?_⟩, ⟨?_, ?_⟩, fun hb => ⟨fun h => ?_, fun h => ?_⟩, fun hb h st Dd hD => ?_⟩, fun hb => ⟨fun h => ?_, fun h => ?_⟩⟩
  · simp only [List.length_cons]; push_cast; omega
  · obtain ⟨k1, k2, k3⟩ := good h
    rw [if_neg (by omega), hw1 hb h, hw2 hb h, u10 hb k2, er_c hQ2']
    rfl
  · split
    · simp only [List.length_nil]; omega
    · simp only [List.length_cons]; push_cast; omega
  · rw [m7]; have := hm7.2.1; rcases hfl with h | h <;> omega
  · rw [m7]; have := hm7.1; rcases hfl with h | h <;> omega
  · obtain ⟨k1, k2, k3⟩ := good h
    have hr0 : 0 ≤ r ∧ r < Mx 124 (Mx 1 18) := by
      rcases hrr with h9 | h9
      · rw [kn_1, if_pos h9] at k1; omega
      · exact h9
    have hva := vt_at hVT hr0.1 hr0.2
    have et : ts9_ Mq r = Mq 182 (8 * Mq 6 61 + r) := by unfold ts9_; rw [if_neg (show ¬ r = -1 by omega)]
    refine ⟨hs0 hb h, by rw [et]; exact hva.2.2.2.1, by rw [et]; exact hva.2.2.2.2.1, by rw [m7]; exact fl0 hb h, ?_⟩
    have e1 := (u14 hb).1 k2
    have e2 : aM_ Ms (t1, Mx 71 (a + 2), bd1) 1 = Ms := by unfold aM_; rw [if_neg (fun h9 => h9.2 k3)]
    have e3 : fqq_ Ms = fqq_ Mq := by rw [e1.2.2.2.2, hfq]; exact (hm7.2.2.1 (.inr k1)).2
    rw [← e3]
    unfold fqq_
    rw [ecl 13 (.inl rfl), ecl 14 (.inr rfl), e2]
  · refine ⟨.inl (hs1 hb h), by rw [m7]; exact fl1 hb h, ?_⟩
    rw [ecl 13 (.inl rfl), ecl 14 (.inr rfl)]
    have hk9 := hkq hb
    rcases u6 with h8 | h8
    · by_cases k3 : t1 = 1
      · have k1 : kn_ Mq r 1 ≠ 0 := fun h9 => bad h ⟨h9, h8, k3⟩
        have e1 := ((u14 hb).1 h8).2.2.2.2
        rw [hfq] at e1
        have e2 := (hm7.2.2.2 hb k1).2
        have e13 : Ms 6 13 = N1 6 13 := congrArg Prod.fst e1
        have e14 : Ms 6 14 = N1 6 14 := congrArg Prod.snd e1
        rw [← e13, ← e14] at e2
        omega
      · have := hk9.2 ⟨h8, k3⟩; omega
    · have e1 := ((u14 hb).2 h8).2.2
      omega
  · obtain ⟨k1, k2, k3⟩ := good h
    have hr0 : 0 ≤ r ∧ r < Mx 124 (Mx 1 18) := by
      rcases hrr with h9 | h9
      · rw [kn_1, if_pos h9] at k1; omega
      · exact h9
    have hsz : ¬ Mq 183 (8 * Mq 6 61 + r) ≤ 0 := fun h9 => by rw [kn_1, if_neg (show ¬ r = -1 by omega), if_pos h9] at k1; omega
    have et : ts9_ Mq r = Mq 182 (8 * Mq 6 61 + r) := by unfold ts9_; rw [if_neg (show ¬ r = -1 by omega)]
    have ev : vq_ Mq r = 8 * Mq 6 61 + r := by unfold vq_; rw [if_neg (show ¬ r = -1 by omega)]
    have hn : nE n t1 ≤ nU (n + 1) (ts9_ Mq r) := by rw [k3]; unfold nE nU; rw [if_pos rfl]; split <;> (push_cast; omega)
    have hn1 : 1 ≤ nU (n + 1) (ts9_ Mq r) := by unfold nU; split <;> (push_cast; omega)
    have ht := ty_c hQ2' l st _ (u15 hb k2 st Dd (by omega))
    refine ⟨t1 :: st, ht, ?_, by simp only [List.length_cons]; push_cast; omega⟩
    refine .inr (.inr (.inr (.inr (.inr (.inl ⟨rfl, ?_, ?_, ?_, st, by rw [k3], ?_⟩)))))
    · show 8 * Mq 6 61 ≤ vq_ Mq r; rw [ev]; omega
    · show vq_ Mq r < 8 * Mq 6 61 + Mq 171 (Mq 6 61)
      have e171 : Mq 171 (Mq 6 61) = Mx 124 (Mx 1 18) := by rw [hVT.2.1]; exact hVT.2.2.2.2.1.2.2
      rw [ev, e171]; omega
    · show 0 < Mq 183 (vq_ Mq r); rw [ev]; omega
    · show ts9_ Mq r :: st = Mq 182 (vq_ Mq r) :: st
      rw [et, ev]
  · rw [m7]; have := fl0 hb h; omega
  · rw [m7] at h
    rcases hbdF01 with h9 | h9
    · exact h9
    · have := fl1 hb h9; omega
end VI
end T93_er

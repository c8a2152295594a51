section T72_er
/-- Q's fault lies where X's lies; X's notes have room -/
def P14 [Inhabited gh_] (Mx' M' : mm_) : Prop := M' 6 14 = Mx' 1 5 ∧ 0 ≤ Mx' 1 7 ∧ Mx' 1 7 ≤ 1000001000 - (gg_ : Int)
/-! the loops over signs: what is asked, what is had, one round -/
/-- both are ahead of an e, or of a part of one -/
def PR [Inhabited gh_] (b F : Int) (Mx Mq : mm_) (a o : Int) (sg : List (Int × Int)) (ws : List (Int × Int × Int)) (c : Int) (cm : List Int) (f : Int) (fm : List (Int × Int)) (cc : Int) (cd : List Int) : Prop :=
  Tks Mx Mq ∧ VT Mx Mq ∧ ER b F Mx Mq a o ∧ QE Mq sg ws (c :: cm) f fm ∧ XE Mx cc cd ∧ LI sg ws c cm f fm a o
/-- within Q's loop: from M to M', has it an operand or not -/
def Rq (dq : Nat) (h : Int) (M : mm_) (h' : Int) (M' : mm_) : Prop := ∀ (V : vv_) (Qr : qr_) (Qt : qt_), Cl_ wd0 (Tr_ wd0 pg0 (dq + 10)) V Qr Qt m_271 → Wk_ V → V 26 [rr 6, ii h', ii 1, none] [] M' → V 26 [rr 6, ii h, ii 1, none] [] M
theorem Rq_tr [Inhabited gh_] {dq : Nat} {h h1 h2 : Int} {M M1 M2 : mm_} (a : Rq dq h M h1 M1) (b : Rq dq h1 M1 h2 M2) : Rq dq h M h2 M2 := fun V Qr Qt hV hW q => a V Qr Qt hV hW (b V Qr Qt hV hW q)
/-- X throws, Q stops with the same fault -/
def XW [Inhabited gh_] (dq : Nat) (h : Int) (Mx Mq Mx' : mm_) : Prop := XF Mx Mx' ∧ ∀ (V : vv_) (Qr : qr_) (Qt : qt_), Cl_ wd0 (Tr_ wd0 pg0 (dq + 10)) V Qr Qt m_271 → Wk_ V → (∀ (Mq' : mm_) (x1 x2 : Int), sp_ Mq' → in9_ Mq' → Mq' 6 13 = Mx' 1 4 → P14 Mx' Mq' → QF Mq Mq' → V 142 [rr 6, ii x1, ii x2, none] [] Mq') → V 26 [rr 6, ii h, ii 1, none] [] Mq
theorem XW_tr [Inhabited gh_] {dq : Nat} {h h' : Int} {Mx Mq Mx1 Mq1 Mx' : mm_} (hx : XF Mx Mx1) (hq : QF Mq Mq1) (hr : Rq dq h Mq h' Mq1) (hw : XW dq h' Mx1 Mq1 Mx') : XW dq h Mx Mq Mx' := by
  obtain ⟨a, k⟩ := hw
  exact ⟨XF_tr hx a, fun V Qr Qt hV hW q => hr V Qr Qt hV hW (k V Qr Qt hV hW (fun Mq' x1 x2 h1 h2 h3 h4 h5 => q Mq' x1 x2 h1 h2 h3 h4 (QF_tr hq h5)))⟩
/-- Q has read a part; signs that bind so strongly, or more, may wait -/
def QB (dq : Nat) (lev b : Int) (Mq Mq' Ms : mm_) (a' : Int) (sg : List (Int × Int)) (c' : Int) (cm : List Int) (f : Int) : Prop :=
  Rq dq 0 Mq 1 Mq' ∧ Red (dq + 8) lev Mq' Ms ∧ ∃ (pend : List (Int × Int)) (wsP : List (Int × Int × Int)) (fmP : List (Int × Int)), QE Mq' (pend ++ sg) wsP (c' :: cm) f fmP ∧ (∀ x, x ∈ pend → 20 ≤ x.1) ∧ ((pend ++ sg).length : Int) ≤ a' ∧ Mq' 6 12 = a' ∧ Mq' 6 16 = b ∧ (b = 0 → Mq' 6 13 = 0) ∧ QF Mq Mq'
theorem nb_pend [Inhabited gh_] : ∀ (pend sg : List (Int × Int)), (∀ x, x ∈ pend → 20 ≤ x.1) → nb_ (pend ++ sg) = nb_ sg ∧ cb_ (pend ++ sg) = cb_ sg
  | [], _, _ => ⟨rfl, rfl⟩
  | x :: t, sg, h => by
    have hx := h x List.mem_cons_self
    have ih := nb_pend t sg (fun y hy => h y (List.mem_cons_of_mem _ hy))
    constructor
    · show (if x.1 = 1 ∨ x.1 = 2 then 1 else 0) + nb_ (t ++ sg) = _
      rw [if_neg (by omega), ih.1, Nat.zero_add]
    · show (if x.1 = 1 then 241 else if x.1 = 2 then 293 else cb_ (t ++ sg)) = _
      rw [if_neg (by omega), if_neg (by omega)]; exact ih.2
theorem cb_r [Inhabited gh_] : ∀ sg : List (Int × Int), cb_ sg = -1 ∨ cb_ sg = 241 ∨ cb_ sg = 293
  | [] => .inl rfl
  | x :: t => by
    show (if x.1 = 1 then 241 else if x.1 = 2 then 293 else cb_ t) = -1 ∨ (if x.1 = 1 then 241 else if x.1 = 2 then 293 else cb_ t) = 241 ∨ (if x.1 = 1 then 241 else if x.1 = 2 then 293 else cb_ t) = 293
    split
    · exact .inr (.inl rfl)
    · split
      · exact .inr (.inr rfl)
      · exact cb_r t
theorem lv_r [Inhabited gh_] {k : Int} : 0 ≤ lv_ k ∧ lv_ k ≤ 5 := by
  unfold lv_; repeat' split
  all_goals omega
theorem lv_cb [Inhabited gh_] {k : Int} {sg : List (Int × Int)} (h : lv_ k ≠ 0) (hk : 0 ≤ k) : k ≠ cb_ sg := by
  intro e
  rcases cb_r sg with h1 | h1 | h1
  · omega
  · rw [h1] at e; rw [e] at h; exact h (by decide)
  · rw [h1] at e; rw [e] at h; exact h (by decide)
theorem lo_sh [Inhabited gh_] {k : Int} (h : lv_ k ≠ 0) : lo9_ (sh_ k) = lv_ k := by
  have hlv : k = 43 ∨ k = 42 ∨ k = 261 ∨ k = 111 ∨ k = 260 ∨ k = 112 ∨ k = 262 ∨ k = 113 ∨ k = 243 ∨ k = 245 ∨ k = 242 ∨ k = 247 ∨ k = 237 := by
    refine Classical.byContradiction fun h9 => h ?_
    unfold lv_
    rw [if_neg (by omega), if_neg (by omega), if_neg (by omega), if_neg (by omega), if_neg (by omega)]
  rcases hlv with e | e | e | e | e | e | e | e | e | e | e | e | e <;> (rw [e]; decide)
theorem Cl_dn [Inhabited gh_] {d : Nat} {V : vv_} {Qr : qr_} {Qt : qt_} {m : md_} (h : Cl_ wd0 (Tr_ wd0 pg0 (d + 1)) V Qr Qt m) : Cl_ wd0 (Tr_ wd0 pg0 d) V Qr Qt m := fun pc ls st M hs => h pc ls st M (by
  unfold st_ at hs ⊢
  split at hs
  · exact ex_monoD (Tr_up d) hs
  · exact hs.elim)
theorem Red_up [Inhabited gh_] {d : Nat} {lev : Int} {M M' : mm_} (h : Red d lev M M') : Red (d + 1) lev M M' := fun a1 a2 c1 c2 V Qr Qt hV hW q => h a1 a2 c1 c2 V Qr Qt (Cl_dn hV) hW q
section RO
variable {dq : Nat} {need lev b F : Int} {Mx Mq Mx1 Mq1 Ms : mm_} {a a1 o : Int} {sg : List (Int × Int)} {ws : List (Int × Int × Int)} {c1 : Int} {cm : List Int} {f : Int} {fm : List (Int × Int)} {cc : Int} {cd y1 : List Int} {s1 t1 bd1 k : Int} {l1 : List (Int × Int)}
/-- kinds of tokens in Q's memory -/
theorem KQ_at [Inhabited gh_] (hT : Tks Mx Mq) {Mx' Mq' : mm_} (hx : XF Mx Mx') (hq : QF Mq Mq') (hg : gd_ Mx' a1) : KQ (Mx 70 a1) (Mq' 149 a1) (Mq' 151 a1) := by
  rw [QF_r hq (r := 149) (by decide) (by decide), QF_r hq (r := 151) (by decide) (by decide)]
  exact (hT a1 (gd_c (XF_70 hx (r := 70) (by decide) (by decide) (by decide)).symm hg)).1
theorem kq_0 [Inhabited gh_] {k t v : Int} (h : KQ k t v) : 0 ≤ k := by unfold KQ at h; omega
/-- Q goes over a sign -/
theorem QB_sign [Inhabited gh_] (hT : Tks Mx Mq) (hP : EP need b F Mx Mq Mx1 Ms a a1 o sg ws c1 cm f fm cc cd y1 s1 t1 bd1 l1) (hQ : QB dq lev b Mq Mq1 Ms a1 sg c1 cm f) (hcm : cm.length = nb_ sg) (hco : (cm.length : Int) ≤ o) (hk : Mx 70 a1 = k) (hlv : lv_ k ≠ 0) (hlev : lv_ k ≤ lev) (htl : tl_ sg < lv_ k) (h12 : a1 < 1200) (hc3 : lv_ k = 3 → c1 = 0) (hc01 : c1 = 0 ∨ c1 = 1) (hsa : (sg.length : Int) ≤ a) :
    Rq dq 0 Mq 0 (mi_ Ms cm.length (cn_ (lv_ k) c1) (sh_ k) a1) := by
  obtain ⟨hr, hR, pend, wsP, fmP, hE, hpe, hlen, h12', h16, h13, hQF⟩ := hQ
  obtain ⟨u1, u2, u3, u4, u5, u6, u7, u8, u9, u10, u11⟩ := hP
  have ha0 : 0 ≤ a1 := u4.1.1
  have hKQ : KQ k (Mq1 149 a1) (Mq1 151 a1) := by rw [← hk]; exact KQ_at hT u2 hQF u4.1
  have hKQs : KQ k (Ms 149 a1) (Ms 151 a1) := by rw [← hk]; exact KQ_at hT u2 u3 u4.1
  have hg1 : go_ Mq1 := by
    unfold go_; rw [h16]
    rcases u4.2.2.2.2.2.2.2.2.1 with h | h
    · left; rw [h13 h]; omega
    · right; omega
  have hgs : go_ Ms := by
    unfold go_; rw [u4.2.2.2.2.2.2.2.1]
    rcases u4.2.2.2.2.2.2.2.2.1 with h | h
    · left; rw [u4.2.2.2.2.2.2.2.2.2.1 h]; omega
    · right; omega
  have hnp := nb_pend pend sg hpe
  have e118 : Mq1 6 118 = (cm.length : Int) := by have := hE.2.2.2.2.1; simp only [List.length_cons] at this; push_cast at this; omega
  have hcm13 : (cm.length : Int) ≤ 12 := by have := u4.2.2.2.2.2.1.2; omega
  intro V Qr Qt hV hW q
  refine hr V Qr Qt hV hW ?_
  refine l_271_26n (k := k) (a := a1) hV hW hE (by omega) (by simp only [List.length_cons]; rw [hnp.1]; omega) hg1 h12' ha0 (by omega) hKQ (lv_cb hlv (kq_0 hKQ)) ?_
  refine l_271_90b (k := k) (a := a1) hV hW ⟨by omega, by omega⟩ h12' hKQ hlv (fun h3 => ⟨by omega, by omega, ?_⟩) ?_
  · rw [e118]
    have := hE.2.2.2.2.2.1.1
    rw [this]; exact hc3 h3
  · refine q_289 (k := k) (a := a1) (lev := lev) (M1 := Ms) hR hlv hlev u5 (by omega) (by omega) hc01 htl u4.2.2.1 ha0 h12 hgs hKQs ?_
    exact q
end RO
end T72_er
section T73_er
/-! a step of reducing, with the memory that it leaves -/
def fM_ (M : mm_) (L t b : Int) : mm_ := up_ (up_ (up_ M 6 116 (M 6 116 - 1)) 231 L t) 233 L b
def rM2_ (M : mm_) (s : Int) : mm_ := pu_ (up_ M 6 112 (M 6 112 - 1)) s 0
def rM3_ (M : mm_) (s : Int) (x y : Int × Int × Int) : mm_ := if s = 25 ∨ s = 26 then (if x.2.2 = 0 ∧ y.2.2 = 0 ∧ x.1 ≠ y.1 then nt_ (rM2_ M s) 5 y.2.1 else rM2_ M s) else aM_ (aM_ (rM2_ M s) x (rw_ s)) y (rw_ s)
def rM_ (M : mm_) (s : Int) (x y : Int × Int × Int) (L : Int) : mm_ := fM_ (rM3_ M s x y) L (if s < 25 then 1 else 2) (rb_ s x y)
section QE
variable {d : Nat} {M : mm_} {sg : List (Int × Int)} {ws : List (Int × Int × Int)} {cm : List Int} {f : Int} {fm : List (Int × Int)} {K : Int → mm_ → Prop} {Kv : mm_ → Prop} {Qr : qr_} {Qt : qt_} {V : vv_}
theorem rM3_QE [Inhabited gh_] {s tk : Int} {x y : Int × Int × Int} (hE : QE M ((s, tk) :: sg) (y :: x :: ws) cm f fm) : QE (rM3_ M s x y) sg (y :: x :: ws) cm f ((s, 0) :: fm) := by
  have h2 : QE (rM2_ M s) sg (y :: x :: ws) cm f ((s, 0) :: fm) := pu_QE (pS_QE hE)
  unfold rM3_
  split
  · split
    · exact nt_QE h2
    · exact h2
  · exact aM_QE (aM_QE h2)
theorem rM2_6 [Inhabited gh_] {s i : Int} (h1 : i ≠ 104) (h2 : i ≠ 112) : rM2_ M s 6 i = M 6 i := by unfold rM2_; rw [pu_6 h1, up_off h2]
theorem rM2_QF [Inhabited gh_] {s : Int} : QF M (rM2_ M s) := QF_tr ⟨Fr_up Fr_rf (by decide), fun i _ _ _ _ _ h _ _ => by rw [up_off h]⟩ pu_QF
theorem rM3_QF [Inhabited gh_] {s : Int} {x y : Int × Int × Int} : QF M (rM3_ M s x y) := by
  unfold rM3_
  split
  · split
    · exact QF_tr rM2_QF nt_QF
    · exact rM2_QF
  · exact QF_tr rM2_QF (QF_tr aM_QF aM_QF)
theorem rM3_6 [Inhabited gh_] {s i : Int} {x y : Int × Int × Int} (h1 : i ≠ 104) (h2 : i ≠ 112) (h3 : i ≠ 13) (h4 : i ≠ 14) : rM3_ M s x y 6 i = M 6 i := by
  unfold rM3_
  split
  · split
    · rw [nt_6 h3 h4, rM2_6 h1 h2]
    · exact rM2_6 h1 h2
  · rw [aM_6 h3 h4, aM_6 h3 h4, rM2_6 h1 h2]
theorem rM3_fq [Inhabited gh_] {s : Int} {x y : Int × Int × Int} : fqq_ (rM3_ M s x y) = rq_ (M 6 16) (fqq_ M) s x y := by
  have e2 : fqq_ (rM2_ M s) = fqq_ M := by unfold fqq_; rw [rM2_6 (by decide) (by decide), rM2_6 (by decide) (by decide)]
  unfold rM3_ rq_
  split
  · split
    · rw [nt_fq, e2, rM2_6 (by decide) (by decide)]
    · exact e2
  · rw [aM_fq, aM_fq, e2, aM_6 (by decide) (by decide), rM2_6 (by decide) (by decide)]
theorem fM_6 [Inhabited gh_] {L t b i : Int} (h : i ≠ 116) : fM_ M L t b 6 i = M 6 i := by unfold fM_; rw [up_ne (by decide), up_ne (by decide), up_off h]
theorem fM_QF [Inhabited gh_] {L t b : Int} : QF M (fM_ M L t b) := ⟨Fr_up (Fr_up (Fr_up Fr_rf (by decide)) (by decide)) (by decide), fun i _ _ _ _ _ _ h _ => fM_6 h⟩
theorem fM_QE [Inhabited gh_] {t b : Int} {x y : Int × Int × Int} (hE : QE M sg (y :: x :: ws) cm f fm) : QE (fM_ M ws.length t b) sg ((t, x.2.1, b) :: ws) cm f fm := by
  have h2 := w3_QE (s := t) (p := x.2.1) (b := b) (pW_QE hE) rfl
  have e4 : w3_ (up_ M 6 116 (M 6 116 - 1)) (ws.length : Int) t x.2.1 b = fM_ M ws.length t b := by
    unfold w3_ fM_
    congr 1
    refine up_id' ?_
    rw [up_ne (by decide), up_ne (by decide)]; exact hE.2.2.2.1.2.2.2.2.1
  rw [← e4]; exact h2
theorem rM_Rd [Inhabited gh_] {s L : Int} {x y : Int × Int × Int} : Rd M (rM_ M s x y L) s x y := by
  refine ⟨QF_tr rM3_QF fM_QF, ?_, ?_, ?_⟩
  · unfold rM_; rw [fM_6 (by decide), rM3_6 (by decide) (by decide) (by decide) (by decide)]
  · unfold rM_; rw [fM_6 (by decide), rM3_6 (by decide) (by decide) (by decide) (by decide)]
  · have : fqq_ (rM_ M s x y L) = fqq_ (rM3_ M s x y) := by unfold fqq_ rM_; rw [fM_6 (by decide), fM_6 (by decide)]
    rw [this]; exact rM3_fq
theorem rM_QE [Inhabited gh_] {s tk : Int} {x y : Int × Int × Int} (hE : QE M ((s, tk) :: sg) (y :: x :: ws) cm f fm) : QE (rM_ M s x y ws.length) sg ((if s < 25 then 1 else 2, x.2.1, rb_ s x y) :: ws) cm f ((s, 0) :: fm) := fM_QE (rM3_QE hE)
theorem m_286_218 [Inhabited gh_] (hV : Cl_ wd0 (Tr_ wd0 pg0 (d + 2)) V Qr Qt m_286) (hW : Wk_ V) {a1 a2 s b L tt : Int} (htt : tt = if s < 25 then 1 else 2) (h0 : 0 ≤ L) (hL : L < 1202) (e116 : M 6 116 = L + 2) (hb : b = 0 ∨ b = 1)
    (h : V 11 [rr 6, ii a1, ii a2, none, none, none, none, none, none, none] [] (fM_ M L tt b)) :
    V 218 [rr 6, ii a1, ii a2, ii s, ii (L + 1), ii L, ii b, none, none, none] [] M := by
  refine b_286_218 (Tr_mono _) hV hW a1 a2 s _ _ b M ?_
  have w1 : w32 (M 6 116 - 1) = M 6 116 - 1 := w32_id (by omega) (by omega)
  rw [w1]
  split
  · rename_i h1
    rw [if_pos h1] at htt; rw [htt] at h
    exact ⟨by omega, ⟨by omega, hb⟩, h⟩
  · rename_i h1
    rw [if_neg h1] at htt; rw [htt] at h
    exact ⟨by omega, ⟨by omega, hb⟩, h⟩
theorem m_286_11 [Inhabited gh_] (hV : Cl_ wd0 (Tr_ wd0 pg0 (d + 2)) V Qr Qt m_286) (hW : Wk_ V) {a1 a2 s tk : Int} {x y : Int × Int × Int} (hE : QE M ((s, tk) :: sg) (y :: x :: ws) cm f fm) (hl : (ws.length : Int) + 1 < 1202) (hs : (sg.length : Int) < 1240) (hf0 : 0 ≤ f) (hf : f + fm.length < 3000)
    (bx : x.2.2 = 0 ∨ x.2.2 = 1) (bY : y.2.2 = 0 ∨ y.2.2 = 1) (hlev : a2 ≤ lo9_ s)
    (h : V 11 [rr 6, ii a1, ii a2, none, none, none, none, none, none, none] [] (rM_ M s x y ws.length)) :
    V 11 [rr 6, ii a1, ii a2, none, none, none, none, none, none, none] [] M := by
  have e112 : M 6 112 = (sg.length : Int) + 1 := by rw [hE.1]; simp only [List.length_cons]; omega
  have e229 : M 229 (sg.length : Int) = s := hE.2.1.1
  refine b_286_11 (Tr_mono _) hV hW a1 a2 M ?_
  have em : M 6 112 - 1 = (sg.length : Int) := by omega
  rw [if_neg (by omega), w32_id (by omega) (by omega), em, e229]
  refine ⟨by omega, q_287 ?_⟩
  rw [if_neg (by omega), w32_id (by omega) (by omega), em, e229]
  refine ⟨by omega, ?_⟩
  have hE1 : QE (up_ M 6 112 (sg.length : Int)) sg (y :: x :: ws) cm f fm := by rw [← em]; exact pS_QE hE
  have e104 : (up_ M 6 112 (sg.length : Int)) 6 104 = f + fm.length := hE1.2.2.2.2.2.2.1
  refine q_277 (by omega) (by omega) ?_
  have hE2 := pu_QE (x := s) (y := 0) hE1
  have eM2 : pu_ (up_ M 6 112 (sg.length : Int)) s 0 = rM2_ M s := by unfold rM2_; rw [em]
  rw [eM2] at hE2 ⊢
  unfold rM_ rM3_ at h
  generalize htt : (if s < 25 then (1 : Int) else 2) = tt at h
  replace htt := htt.symm
  generalize hM2 : rM2_ M s = M2 at *
  have e116 : M2 6 116 = (ws.length : Int) + 2 := by rw [hE2.2.2.1]; simp only [List.length_cons]; omega
  have w1 : w32 (M2 6 116 - 1) = (ws.length : Int) + 1 := by rw [w32_id (by omega) (by omega)]; omega
  have w2 : w32 (M2 6 116 - 2) = (ws.length : Int) := by rw [w32_id (by omega) (by omega)]; omega
  rw [w1, w2]
  have ex3 : M2 233 (ws.length : Int) = x.2.2 := hE2.2.2.2.1.2.2.2.2.2.1
  have ey3 : M2 233 ((ws.length : Int) + 1) = y.2.2 := by have := hE2.2.2.2.1.2.2.1; simp only [List.length_cons] at this; exact_mod_cast this
  have ex1 : M2 231 (ws.length : Int) = x.1 := hE2.2.2.2.1.2.2.2.1
  have ey1 : M2 231 ((ws.length : Int) + 1) = y.1 := by have := hE2.2.2.2.1.1; simp only [List.length_cons] at this; exact_mod_cast this
  have ex2 : M2 232 (ws.length : Int) = x.2.1 := hE2.2.2.2.1.2.2.2.2.1
  have ey2 : M2 232 ((ws.length : Int) + 1) = y.2.1 := by have := hE2.2.2.2.1.2.1; simp only [List.length_cons] at this; exact_mod_cast this
  rw [ex3, ey3]
  refine ⟨by omega, fun _ => ?_⟩
  have main : ∀ b0 : Int, (b0 = 0 ∨ b0 = 1) → (b0 = 0 ↔ x.2.2 = 0 ∧ y.2.2 = 0) → V 105 [rr 6, ii a1, ii a2, ii s, ii ((ws.length : Int) + 1), ii (ws.length : Int), ii b0, none, none, none] [] M2 := by
    intro b0 hb0 hbe
    refine b_286_105 (Tr_mono _) hV hW a1 a2 s _ _ b0 M2 ?_
    have same : s = 25 ∨ s = 26 → V 117 [rr 6, ii a1, ii a2, ii s, ii ((ws.length : Int) + 1), ii (ws.length : Int), ii b0, none, none, none] [] M2 := by
      intro hs2
      rw [if_pos hs2] at h
      unfold rb_ at h
      rw [if_pos hs2] at h
      refine b_286_117 (Tr_mono _) hV hW a1 a2 s _ _ b0 M2 ?_
      rw [ex1, ey1, ey2]
      by_cases c1 : b0 = 0
      · rw [if_pos c1]
        have c2 := hbe.mp c1
        by_cases c3 : x.1 = y.1
        · rw [if_neg (fun h9 => h9.2.2 c3), if_pos ⟨c2.1, c2.2, c3⟩] at h
          rw [if_pos c3]
          refine ⟨by omega, by omega, ?_⟩
          rw [c1]
          exact m_286_218 hV hW htt (by omega) (by omega) e116 (.inl rfl) h
        · rw [if_pos ⟨c2.1, c2.2, c3⟩, if_neg (fun h9 => c3 h9.2.2)] at h
          rw [if_neg c3]
          refine ⟨by omega, by omega, by omega, q_236 ?_⟩
          exact m_286_218 hV hW htt (by omega) (by omega) (by rw [nt_6 (by decide) (by decide)]; exact e116) (.inr rfl) h
      · rw [if_neg c1]
        have c2 : ¬ (x.2.2 = 0 ∧ y.2.2 = 0) := fun h9 => c1 (hbe.mpr h9)
        rw [if_neg (fun h9 => c2 ⟨h9.1, h9.2.1⟩), if_neg (fun h9 => c2 ⟨h9.1, h9.2.1⟩)] at h
        have e : b0 = 1 := by omega
        rw [e]
        exact m_286_218 hV hW htt (by omega) (by omega) e116 (.inr rfl) h
    have other : ¬ (s = 25 ∨ s = 26) → V 176 [rr 6, ii a1, ii a2, ii s, ii ((ws.length : Int) + 1), ii (ws.length : Int), ii b0, ii (rw_ s), none, none] [] M2 := by
      intro hs2
      rw [if_neg hs2] at h
      unfold rb_ at h
      rw [if_neg hs2] at h
      refine b_286_176 (Tr_mono _) hV hW a1 a2 s _ _ b0 _ M2 ?_
      refine q_280 (x := x) (by omega) (by omega) ex1 ex2 ex3 ?_
      refine q_280 (x := y) (by omega) (by omega) (by rw [aM_r (by decide)]; exact ey1) (by rw [aM_r (by decide)]; exact ey2) (by rw [aM_r (by decide)]; exact ey3) ?_
      have e116' : aM_ (aM_ M2 x (rw_ s)) y (rw_ s) 6 116 = (ws.length : Int) + 2 := by rw [aM_6 (by decide) (by decide), aM_6 (by decide) (by decide)]; exact e116
      have fin : ∀ (b : Int), (b = 0 ∨ b = 1) → b = (if x.2.2 = 0 ∧ y.2.2 = 0 ∧ x.1 = rw_ s ∧ y.1 = rw_ s then 0 else 1) → V 218 [rr 6, ii a1, ii a2, ii s, ii ((ws.length : Int) + 1), ii (ws.length : Int), ii b, none, none, none] [] (aM_ (aM_ M2 x (rw_ s)) y (rw_ s)) := by
        intro b hb h8
        rw [← h8] at h
        exact m_286_218 hV hW htt (by omega) (by omega) e116' hb h
      by_cases c1 : b0 = 0
      · rw [if_pos c1]
        have c2 := hbe.mp c1
        by_cases c3 : ab_ x (rw_ s) = 0
        · rw [if_pos c3]
          have c3' : x.1 = rw_ s := by unfold ab_ at c3; split at c3; omega; rename_i h9; exact Classical.byContradiction fun h8 => h9 ⟨c2.1, h8⟩
          by_cases c4 : ab_ y (rw_ s) = 0
          · rw [if_pos c4]
            have c4' : y.1 = rw_ s := by unfold ab_ at c4; split at c4; omega; rename_i h9; exact Classical.byContradiction fun h8 => h9 ⟨c2.2, h8⟩
            refine fin 0 (.inl rfl) ?_
            rw [if_pos ⟨c2.1, c2.2, c3', c4'⟩]
          · rw [if_neg c4]
            refine fin 1 (.inr rfl) ?_
            rw [if_neg]
            intro h9; apply c4; unfold ab_; rw [if_neg]; intro h8; exact h8.2 h9.2.2.2
        · rw [if_neg c3]
          refine fin 1 (.inr rfl) ?_
          rw [if_neg]
          intro h9; apply c3; unfold ab_; rw [if_neg]; intro h8; exact h8.2 h9.2.2.1
      · rw [if_neg c1]
        refine fin 1 (.inr rfl) ?_
        rw [if_neg]
        intro h9; exact c1 (hbe.mpr ⟨h9.1, h9.2.1⟩)
    by_cases g1 : s = 25
    · rw [if_pos g1]; exact same (.inl g1)
    · rw [if_neg g1]
      by_cases g2 : s = 26
      · rw [if_pos g2]; exact same (.inr g2)
      · rw [if_neg g2]
        have o := other (by omega)
        by_cases g3 : s = 31
        · rw [if_pos g3]
          have : rw_ s = 2 := by unfold rw_; rw [if_pos (.inl g3)]
          rw [this] at o; exact o
        · rw [if_neg g3]
          by_cases g4 : s = 32
          · rw [if_pos g4]
            have : rw_ s = 2 := by unfold rw_; rw [if_pos (.inr g4)]
            rw [this] at o; exact o
          · rw [if_neg g4]
            have : rw_ s = 1 := by unfold rw_; rw [if_neg (by omega)]
            rw [this] at o; exact o
  by_cases c1 : x.2.2 = 0
  · rw [if_pos c1]
    refine ⟨by omega, fun _ => ?_⟩
    by_cases c2 : y.2.2 = 0
    · rw [if_pos c2]; exact main 0 (.inl rfl) ⟨fun _ => ⟨c1, c2⟩, fun _ => rfl⟩
    · rw [if_neg c2]; exact main 1 (.inr rfl) ⟨fun h9 => absurd h9 (by decide), fun h9 => absurd h9.2 c2⟩
  · rw [if_neg c1]; exact main 1 (.inr rfl) ⟨fun h9 => absurd h9 (by decide), fun h9 => absurd h9.1 c1⟩
end QE
end T73_er
section T74_er
/-! one round over a sign: no room; ahead of the right part; behind it -/
section RO
variable {dq d : Nat} {need lev b F : Int} {M Mx Mq Mx1 Mq1 Ms : mm_} {a a1 o : Int} {sg : List (Int × Int)} {ws : List (Int × Int × Int)} {c1 : Int} {cm : List Int} {f : Int} {fm : List (Int × Int)} {cc : Int} {cd y1 : List Int} {s1 t1 bd1 k : Int} {l1 : List (Int × Int)} {Kv : mm_ → Prop} {Qr : qr_} {Qt : qt_} {V : vv_}
theorem q_289r [Inhabited gh_] {c : Int} {M1 : mm_} (hr : Red (d + 1) lev M M1) (hlv : lv_ k ≠ 0) (hx : lv_ k ≤ lev) (hE : QE M1 sg ws (c :: cm) f fm) (hs : (sg.length : Int) < 1240) (hcm : (cm.length : Int) < 40) (hc : c = 0 ∨ c = 1) (ht : tl_ sg < lv_ k) (ha : M1 6 12 = 1200) (hg : ok_ M1) (hk : KQ k (M1 149 1200) (M1 151 1200))
    (h : Kv (bf_ (ho_ (up_ M1 234 (cm.length : Int) (cn_ (lv_ k) c)) (sh_ k) 1200) 2 (M1 150 1200))) : Tr_ wd0 pg0 (d + 3) 289 [.inr (.inr 6), .inl (lv_ k)] M (rv_ Kv) Qt := t_289 fun V hV hW => b_289_0 (Tr_mono _) hV hW (lv_ k) M (by
  have hr1 : 1 ≤ lv_ k := by have := lv_r (k := k); omega
  refine q_286 hr (by omega) hx hE (by omega) (.inl ht) ?_
  have e118 : M1 6 118 = (cm.length : Int) := by have := hE.2.2.2.2.1; simp only [List.length_cons] at this; push_cast at this; omega
  have e234 : M1 234 (cm.length : Int) = c := hE.2.2.2.2.2.1.1
  have e112 : M1 6 112 = (sg.length : Int) := hE.1
  rw [e118, e234]
  have fin : ∀ v : Int, v = cn_ (lv_ k) c → Tr_ wd0 pg0 (d + 2) 290 [.inr (.inr 6)] (up_ M1 234 (cm.length : Int) v) (ri_ fun v1 M2 => Tr_ wd0 pg0 (d + 2) 273 [.inr (.inr 6), .inl v1, .inl (M2 6 12)] M2 (rv_ fun M3 => Tr_ wd0 pg0 (d + 2) 230 [.inr (.inr 6)] M3 (rv_ fun M4 => rv_ Kv [] M4) Qt) Qt) Qt := by
    intro v hv
    subst hv
    refine q_290 (k := k) ⟨by rw [up_ne (by decide)]; omega, by rw [up_ne (by decide)]; omega⟩ (by rw [up_ne (by decide), up_ne (by decide), up_ne (by decide), ha]; exact hk) hlv ?_
    refine q_273 (by rw [up_ne (by decide)]; omega) (by rw [up_ne (by decide)]; omega) ?_
    refine q_230r ?_ ?_ ?_
    · unfold ok_; rw [ho_6 (by decide), ho_6 (by decide), up_ne (by decide)]; exact hg
    · rw [ho_6 (by decide), up_ne (by decide)]; exact ha
    · rw [ho_6 (by decide), up_ne (by decide), ha, ho_r (by decide) (by decide) (by decide), up_ne (by decide)]; exact rv_i h
  by_cases c1 : lv_ k = 3
  · rw [if_pos c1]
    refine ⟨⟨by omega, .inr rfl⟩, fin 1 ?_⟩
    unfold cn_; rw [if_pos c1]
  · rw [if_neg c1]
    by_cases c2 : lv_ k ≤ 3
    · rw [if_pos c2]
      refine ⟨⟨by omega, .inl rfl⟩, fin 0 ?_⟩
      unfold cn_; rw [if_neg c1, if_pos c2]
    · rw [if_neg c2]
      have ec : c = cn_ (lv_ k) c := by unfold cn_; rw [if_neg c1, if_neg c2]
      refine ⟨by omega, fun _ => ?_⟩
      by_cases c3 : c = 0
      · rw [if_pos c3]
        exact ⟨⟨by omega, .inl rfl⟩, fin 0 (by rw [← ec]; exact c3.symm)⟩
      · rw [if_neg c3]
        exact ⟨⟨by omega, .inr rfl⟩, fin 1 (by rw [← ec]; omega)⟩)
/-- stopped: the loop is left -/
theorem l_271_st [Inhabited gh_] (hV : Cl_ wd0 (Tr_ wd0 pg0 (d + 1)) V Qr Qt m_271) (hW : Wk_ V) {h g : Int} (hs : sp_ M) (hq : V 142 [rr 6, ii h, ii g, none] [] M) : V 26 [rr 6, ii h, ii g, none] [] M := by
  refine b_271_26 (Tr_mono _) hV hW h g M ?_
  by_cases c : g = 0
  · rw [if_pos c]; exact hq
  · rw [if_neg c]
    refine q_227s hs ?_
    rw [if_neg (by decide)]; exact hq
theorem fl_XF [Inhabited gh_] {k t : Int} : XF M (flX_ M k t) := by
  unfold flX_
  refine ⟨Fr_up (Fr_up Fr_rf (by decide)) (by decide), fun i _ h4 h5 _ _ => by rw [up_off h5, up_off h4], fun i _ => by rw [up_ne (by decide), up_ne (by decide)]⟩
theorem fl_4 [Inhabited gh_] {k t : Int} : flX_ M k t 1 4 = k := by unfold flX_; rw [up_off (by decide), up_at]
theorem fl_5 [Inhabited gh_] {k t : Int} : flX_ M k t 1 5 = M 71 t := by unfold flX_; rw [up_at]
theorem fl_7 [Inhabited gh_] {M : mm_} {k t : Int} : flX_ M k t 1 7 = M 1 7 := by unfold flX_; rw [up_off (by decide), up_off (by decide)]
theorem fl_b7 [Inhabited gh_] {b F : Int} {M N : mm_} {a o k t : Int} (hE : ER b F M N a o) : 0 ≤ flX_ M k t 1 7 ∧ flX_ M k t 1 7 ≤ 1000001000 - (gg_ : Int) := by
  have h0 := hE.2.2.2.2.2.2.2.2.2.2.2.1
  have h1 := hE.2.2.2.2.2.2.2.2.2.2.2.2.1
  have h2 := hE.1.2.1
  rw [fl_7]; omega
theorem bf_QF [Inhabited gh_] {k p : Int} : QF M (bf_ M k p) := ⟨fun r h => bf_ne fun e => h (by rw [e]; decide), fun i _ h1 h2 _ _ _ _ _ => bf_6 h1 h2⟩
/-- Q's place of a token -/
theorem pl_at [Inhabited gh_] (hT : Tks Mx Mq) {Mq' : mm_} (hq : QF Mq Mq') (hg : gd_ Mx a1) : Mq' 150 a1 = Mx 71 a1 := by
  rw [QF_r hq (r := 150) (by decide) (by decide)]; exact ((hT a1 hg).2.1).symm
theorem QB_room [Inhabited gh_] (hT : Tks Mx Mq) (hb : b = 0) (hP : EP need b F Mx Mq Mx1 Ms a a1 o sg ws c1 cm f fm cc cd y1 s1 t1 bd1 l1) (hQ : QB dq lev b Mq Mq1 Ms a1 sg c1 cm f) (hcm : cm.length = nb_ sg) (hco : (cm.length : Int) ≤ o) (hk : Mx 70 a1 = k) (hlv : lv_ k ≠ 0) (hlev : lv_ k ≤ lev) (htl : tl_ sg < lv_ k) (h12 : a1 = 1200) (hc3 : lv_ k = 3 → c1 = 0) (hc01 : c1 = 0 ∨ c1 = 1) (hsa : (sg.length : Int) ≤ a) :
    XW dq 0 Mx Mq (flX_ Mx1 2 a1) := by
  obtain ⟨hr, hR, pend, wsP, fmP, hE, hpe, hlen, h12', h16, h13, hQF⟩ := hQ
  obtain ⟨u1, u2, u3, u4, u5, u6, u7, u8, u9, u10, u11⟩ := hP
  have ha0 : 0 ≤ a1 := u4.1.1
  have hKQ : KQ k (Mq1 149 a1) (Mq1 151 a1) := by rw [← hk]; exact KQ_at hT u2 hQF u4.1
  have hKQs : KQ k (Ms 149 a1) (Ms 151 a1) := by rw [← hk]; exact KQ_at hT u2 u3 u4.1
  have hg1 : go_ Mq1 := .inl (by rw [h13 hb]; omega)
  have hgs : ok_ Ms := ⟨u4.2.2.2.2.2.2.2.2.2.1 hb, by rw [u4.2.2.2.2.2.2.2.1]; exact hb⟩
  have hnp := nb_pend pend sg hpe
  have e118 : Mq1 6 118 = (cm.length : Int) := by have := hE.2.2.2.2.1; simp only [List.length_cons] at this; push_cast at this; omega
  have hcm13 : (cm.length : Int) ≤ 12 := by have := u4.2.2.2.2.2.1.2; omega
  have hga : gd_ Mx a1 := gd_c (XF_70 u2 (r := 70) (by decide) (by decide) (by decide)).symm u4.1
  have hXF : XF Mx (flX_ Mx1 2 a1) := XF_tr u2 fl_XF
  have h150 : Ms 150 1200 = Mx 71 a1 := by rw [← h12]; exact pl_at hT u3 hga
  have hsp : sp_ (bf_ (ho_ (up_ Ms 234 (cm.length : Int) (cn_ (lv_ k) c1)) (sh_ k) 1200) 2 (Ms 150 1200)) := bf_sp (by rw [ho_6 (by decide), up_ne (by decide)]; exact hgs.2) (by decide)
  refine ⟨hXF, ?_⟩
  · intro V Qr Qt hV hW q
    refine hr V Qr Qt hV hW ?_
    refine l_271_26n (k := k) (a := a1) hV hW hE (by omega) (by simp only [List.length_cons]; rw [hnp.1]; omega) hg1 h12' ha0 (by omega) hKQ (lv_cb hlv (kq_0 hKQ)) ?_
    refine l_271_90b (k := k) (a := a1) hV hW ⟨by omega, by omega⟩ h12' hKQ hlv (fun h3 => ⟨by omega, by omega, ?_⟩) ?_
    · rw [e118]
      have := hE.2.2.2.2.2.1.1
      rw [this]; exact hc3 h3
    · refine q_289r (k := k) (lev := lev) (M1 := Ms) hR hlv hlev u5 (by omega) (by omega) hc01 htl (by rw [u4.2.2.1]; exact h12) hgs (by rw [← h12]; exact hKQs) ?_
      refine l_271_st hV hW hsp (q _ 0 1 hsp ?_ ?_ ?_ ?_)
      · unfold in9_; rw [bf_6 (by decide) (by decide), ho_6 (by decide), up_ne (by decide), u4.2.2.1]; omega
      · rw [bf_13, fl_4]
      · exact ⟨by rw [bf_14, fl_5, XF_70 u2 (r := 71) (by decide) (by decide) (by decide)]; exact h150, fl_b7 u4⟩
      · exact QF_tr u3 (QF_tr (QF_tr ⟨Fr_up Fr_rf (by decide), fun i _ _ _ _ _ _ _ _ => by rw [up_ne (by decide)]⟩ ho_QF) bf_QF)
theorem cn_01 [Inhabited gh_] {lv c : Int} (h : c = 0 ∨ c = 1) : cn_ lv c = 0 ∨ cn_ lv c = 1 := by
  unfold cn_; split
  · exact .inr rfl
  · split
    · exact .inl rfl
    · exact h
/-- ahead of the right part -/
theorem PR_mid [Inhabited gh_] {F2 : Int} {Mh : mm_} (hR : PR b F Mx Mq a o sg ws c1 cm f fm cc cd) {c' : Int} (hP : EP need b F Mx Mq Mx1 Ms a a1 o sg ws c' cm f fm cc cd y1 s1 t1 bd1 l1) (hc01 : c' = 0 ∨ c' = 1) (hk : Mx 70 a1 = k) (hlv : lv_ k ≠ 0) (h12 : a1 < 1200)
    (hMh : (Mh = Mx1 ∧ F2 = F) ∨ (b = 1 ∧ Mh = nt1_ Mx1 5 a ∧ F2 = min F (8 * Mx 71 a + 5))) :
    PR b F2 (nX_ Mh) (mi_ Ms cm.length (cn_ (lv_ k) c') (sh_ k) a1) (a1 + 1) o ((sh_ k, a1) :: sg) ((t1, Mx 71 a, bd1) :: ws) (cn_ (lv_ k) c') cm f (l1 ++ fm) cc (y1 ++ cd) := by
  obtain ⟨hT, hV, hER, hQE, hXE, hL⟩ := hR
  obtain ⟨u1, u2, u3, u4, u5, u6, u7, ⟨u8, _, _, _⟩, u9, u10, u11⟩ := hP
  have hm := EP_mid (cm := cm) (c2 := cn_ (lv_ k) c') hT hER.1 u2 u4 u8 hk hlv h12 hMh
  obtain ⟨l1', l2, l3, l4, l5, l6, l7, l8, l9⟩ := hL
  refine ⟨Tks_c (XF_tr u2 hm.2.1) (QF_tr u3 mi_QF) hT, VT_c (XF_tr u2 hm.2.1) (QF_tr u3 mi_QF) hV, hm.1, mi_QE u5, hm.2.2.1, ?_, ?_, cn_01 hc01, ?_, l5, ?_, ?_, l8, ?_⟩
  · intro x hx
    rcases List.mem_cons.mp hx with h | h
    · rw [h]; exact ⟨u4.1.1, by show a1 < 1202; omega⟩
    · exact l1' x h
  · intro x hx
    rcases List.mem_cons.mp hx with h | h
    · rw [h]; exact u6
    · exact l2 x h
  · rw [l4]
    show nb_ sg = (if sh_ k = 1 ∨ sh_ k = 2 then 1 else 0) + nb_ sg
    have := sh_r (k := k)
    rw [if_neg (by omega), Nat.zero_add]
  · simp only [List.length_cons]; push_cast; omega
  · simp only [List.length_cons]; push_cast; omega
  · simp only [List.length_cons, List.length_append]; push_cast; omega
/-- behind the right part: the two are one -/
theorem QB_bin [Inhabited gh_] {Mx2 Mx3 Mq2 Mq3 Ms3 : mm_} {n2 lev2 F2 a3 s2 t2 bd2 c2 c3 lv : Int} {y2 : List Int} {l2 : List (Int × Int)} (hL : LI sg ws c1 cm f fm a o) (h01 : bd1 = 0 ∨ bd1 = 1) (hl1 : (l1.length : Int) ≤ a1 - a) {sgn : Int} (hsgn : 20 ≤ sgn) (hlo : lo9_ sgn = lv) (hq1 : Rq dq 0 Mq 0 Mq2) (hqf : QF Mq Mq2)
    (hP2 : EP n2 b F2 Mx2 Mq2 Mx3 Ms3 (a1 + 1) a3 o ((sgn, a1) :: sg) ((t1, Mx 71 a, bd1) :: ws) c3 cm f (l1 ++ fm) cc (y1 ++ cd) y2 s2 t2 bd2 l2) (hQ2 : QB dq lev2 b Mq2 Mq3 Ms3 a3 ((sgn, a1) :: sg) c3 cm f) (hlev : lv ≤ lev2) :
    Rd Ms3 (rM_ Ms3 sgn (t1, Mx 71 a, bd1) (t2, Mx2 71 (a1 + 1), bd2) ws.length) sgn (t1, Mx 71 a, bd1) (t2, Mx2 71 (a1 + 1), bd2)
    ∧ QE (rM_ Ms3 sgn (t1, Mx 71 a, bd1) (t2, Mx2 71 (a1 + 1), bd2) ws.length) sg ((if sgn < 25 then 1 else 2, Mx 71 a, rb_ sgn (t1, Mx 71 a, bd1) (t2, Mx2 71 (a1 + 1), bd2)) :: ws) (c3 :: cm) f ((sgn, 0) :: (l2 ++ (l1 ++ fm)))
    ∧ QB dq lv b Mq Mq3 (rM_ Ms3 sgn (t1, Mx 71 a, bd1) (t2, Mx2 71 (a1 + 1), bd2) ws.length) a3 sg c3 cm f := by
  obtain ⟨v1, v2, v3, v4, v5, v6, v7, v8, v9, v10, v11⟩ := hP2
  obtain ⟨hr, hR, pend, wsP, fmP, hE, hpe, hlen, h12', h16, h13, hQF⟩ := hQ2
  obtain ⟨q1, q2, q3, q4, q5, q6, q7, q8, q9⟩ := hL
  have ha3 : a3 ≤ 1200 := v4.1.2.1
  refine ⟨rM_Rd, rM_QE v5, Rq_tr hq1 hr, ?_, pend ++ [(sgn, a1)], wsP, fmP, ?_, ?_, ?_, h12', h16, h13, QF_tr hqf hQF⟩
  · refine Red_tr hR (l2 := lv) ?_ hlev (Int.le_refl _)
    intro x1 x2 e1 e2 V Qr Qt hV hW q
    refine m_286_11 (d := dq + 6) hV hW v5 (by omega) (by omega) q8 ?_ h01 v6 (by omega) q
    simp only [List.length_append]; push_cast; omega
  · rw [List.append_assoc]; exact hE
  · intro x hx
    rcases List.mem_append.mp hx with h | h
    · exact hpe x h
    · rw [List.mem_singleton.mp h]; exact hsgn
  · rw [List.append_assoc]; exact hlen
end RO
end T74_er
section T75_er
/-! prod -/
def nU (n : Nat) (t : Int) : Int := if t = 1 then 1 + 2 * n else 3 + 3 * n
def nP (n : Nat) (t : Int) : Int := if t = 1 then 2 + 2 * n else 3 + 3 * n
def nS (n : Nat) (t : Int) : Int := if t = 1 then 3 + 2 * n else 3 + 3 * n
def nR (n : Nat) (t : Int) : Int := if t = 1 then 3 + 2 * n else 4 + 3 * n
def nC (n : Nat) (t : Int) : Int := if t = 1 then 3 + 2 * n else 5 + 3 * n
def nE (n : Nat) (t : Int) : Int := if t = 1 then 3 + 2 * n else 6 + 3 * n
def NX (lev k c c' : Int) : Prop := (lev ≤ lv_ k → lv_ k = 3 ∧ lev ≤ 3 ∧ c' = 1) ∧ (4 ≤ lev → c' = c)
def Ex9 (dq : Nat) (M M' : mm_) : Prop := ∀ (Kv : mm_ → Prop) (Qt : qt_), Kv M' → Tr_ wd0 pg0 (dq + 7) 279 [.inr (.inr 6)] M (rv_ Kv) Qt
/-- what is said of un -/
def SA [Inhabited gh_] (m nt D dq n : Nat) (o : Int) : Prop := ∀ (b F : Int) (Mx Mq : mm_) (a : Int) (sg : List (Int × Int)) (ws : List (Int × Int × Int)) (c : Int) (cm : List Int) (f : Int) (fm : List (Int × Int)) (cc : Int) (cd : List Int) (K : Int → mm_ → Prop) (Qt : qt_),
  PR b F Mx Mq a o sg ws c cm f fm cc cd → (b = 1 → ES (Mx 70) nt o a ≠ none) →
  (∀ s Mx' Mq' a' y t bd l, EP (nU n t) b F Mx Mq Mx' Mq' a a' o sg ws c cm f fm cc cd y s t bd l → (b = 1 → bd = 1 → s = -1) → (∀ M', Ex9 dq Mq' M' → Rq dq 0 Mq 1 M') → ES (Mx 70) nt o a = some a' → K s Mx') →
  (b = 0 → ∀ Mx', XW dq 0 Mx Mq Mx' → Qt 8 Mx') → Tr_ wd0 pg0 D m [.inr (.inr 1)] Mx (ri_ K) Qt
/-- what is said of prod, sum, rel, con, e -/
def SB [Inhabited gh_] (m nt : Nat) (lev : Int) (nd : Int → Int) (D dq : Nat) (o : Int) : Prop := ∀ (b F : Int) (Mx Mq : mm_) (a : Int) (sg : List (Int × Int)) (ws : List (Int × Int × Int)) (c : Int) (cm : List Int) (f : Int) (fm : List (Int × Int)) (cc : Int) (cd : List Int) (K : Int → mm_ → Prop) (Qt : qt_),
  PR b F Mx Mq a o sg ws c cm f fm cc cd → nP_ sg → tl_ sg < lev → (lev ≤ 3 → c = 0) → (b = 1 → ES (Mx 70) nt o a ≠ none) →
  (∀ s Mx' Mq' Ms a' c' y t bd l, EP (nd t) b F Mx Mq Mx' Ms a a' o sg ws c' cm f fm cc cd y s t bd l → (b = 1 → bd = 1 → s = -1) → QB dq lev b Mq Mq' Ms a' sg c' cm f → ES (Mx 70) nt o a = some a' → (c' = 0 ∨ c' = 1) → NX lev (Mx 70 a') c c' → K s Mx') →
  (b = 0 → ∀ Mx', XW dq 0 Mx Mq Mx' → Qt 8 Mx') → Tr_ wd0 pg0 D m [.inr (.inr 1)] Mx (ri_ K) Qt
section PD
variable {dq D n : Nat} {n1 n2 b F : Int} {Mx Mq Mx1 Mq1 Ms : mm_} {a a1 o : Int} {sg : List (Int × Int)} {ws : List (Int × Int × Int)} {c c1 : Int} {cm : List Int} {f : Int} {fm : List (Int × Int)} {cc : Int} {cd y1 : List Int} {s1 t1 bd1 k : Int} {l1 : List (Int × Int)} {K : Int → mm_ → Prop} {Kv : mm_ → Prop} {Qr : qr_} {Qt : qt_} {V : vv_}
theorem EP_weak [Inhabited gh_] (h : EP n1 b F Mx Mq Mx1 Ms a a1 o sg ws c1 cm f fm cc cd y1 s1 t1 bd1 l1) (hn : n1 ≤ n2) : EP n2 b F Mx Mq Mx1 Ms a a1 o sg ws c1 cm f fm cc cd y1 s1 t1 bd1 l1 := by
  obtain ⟨u1, u2, u3, u4, u5, u6, u7, u8, u9, u10, u11⟩ := h
  exact ⟨u1, u2, u3, u4, u5, u6, u7, u8, u9, u10, fun h1 h2 st Dd hd => u11 h1 h2 st Dd (by omega)⟩
theorem EP_ret [Inhabited gh_] (h : EP n1 b F Mx Mq Mx1 Ms a a1 o sg ws c1 cm f fm cc cd y1 s1 t1 bd1 l1) {s : Int} (hs : s = if Mx1 1 7 ≤ Mx 1 7 then s1 else -1) : EP n1 b F Mx Mq Mx1 Ms a a1 o sg ws c1 cm f fm cc cd y1 s t1 bd1 l1 ∧ (b = 1 → bd1 = 1 → s = -1) := by
  obtain ⟨u1, u2, u3, u4, u5, u6, u7, u8, u9, u10, u11⟩ := h
  have e1 : b = 1 → bd1 = 1 → s = -1 := fun h1 h2 => by rw [hs, if_neg (by have := ((u10 h1).2 h2).2.1; omega)]
  refine ⟨⟨u1, u2, u3, u4, u5, u6, u7, u8, u9, fun h1 => ⟨fun h2 => ?_, fun h2 => ⟨.inl (e1 h1 h2), ((u10 h1).2 h2).2⟩⟩, u11⟩, e1⟩
  have := (u10 h1).1 h2
  rw [hs, if_pos (by omega)]; exact this
theorem EP_iX [Inhabited gh_] (h : EP n1 b F Mx Mq Mx1 Ms a a1 o sg ws c1 cm f fm cc cd y1 s1 t1 bd1 l1) : iX_ Mx1 := ⟨by have := h.2.2.2.1.2.1; have := h.2.2.2.1.1.1; omega, by have := h.2.2.2.1.2.1; have := h.2.2.2.1.1.2.1; omega⟩
theorem EP_70 [Inhabited gh_] (h : EP n1 b F Mx Mq Mx1 Ms a a1 o sg ws c1 cm f fm cc cd y1 s1 t1 bd1 l1) : Mx1 70 (Mx1 1 3) = Mx 70 a1 := by
  rw [XF_70 h.2.1 (r := 70) (by decide) (by decide) (by decide), h.2.2.2.1.2.1]
theorem un_B [Inhabited gh_] (hsg : nP_ sg) (hL : LI sg ws c cm f fm a o) (h : EP n1 b F Mx Mq Mx1 Ms a a1 o sg ws c cm f fm cc cd y1 s1 t1 bd1 l1) (hx : ∀ M', Ex9 dq Ms M' → Rq dq 0 Mq 1 M') : QB dq 5 b Mq Ms Ms a1 sg c cm f := by
  have hR : Rq dq 0 Mq 1 Ms := hx Ms fun Kv Qt hk => q_279n h.2.2.2.2.1 (by have := hL.2.2.2.2.2.1; have := h.1; have := h.2.2.2.1.1.2.1; omega) hsg hk
  refine ⟨hR, Red_rf, [], _, _, h.2.2.2.2.1, fun x hx => absurd hx (by simp), ?_, h.2.2.2.1.2.2.1, h.2.2.2.1.2.2.2.2.2.2.2.1, h.2.2.2.1.2.2.2.2.2.2.2.2.2.1, h.2.2.1⟩
  simp only [List.nil_append]
  have := hL.2.2.2.2.2.1; have := h.1; omega
/-- the way over a sign, whatever X's method: Mh has what was asked of the left part -/
theorem mh_c [Inhabited gh_] {sgn : Int} {Mh : mm_} {F2 : Int} (h8 : Mx1 1 8 = b) (h01 : b = 0 ∨ b = 1) (hMh : Mh = if sgn = 25 ∨ sgn = 26 then Mx1 else hX_ Mx1 s1 (rw_ sgn - 1) a) (hF2 : F2 = if b = 0 ∨ (sgn = 25 ∨ sgn = 26) ∨ s1 = -1 ∨ s1 = rw_ sgn - 1 then F else min F (8 * Mx 71 a + 5)) : (Mh = Mx1 ∧ F2 = F) ∨ (b = 1 ∧ Mh = nt1_ Mx1 5 a ∧ F2 = min F (8 * Mx 71 a + 5)) := by
  rw [hMh, hF2]
  by_cases any : sgn = 25 ∨ sgn = 26
  · rw [if_pos any, if_pos (.inr (.inl any))]; exact .inl ⟨rfl, rfl⟩
  · rw [if_neg any]
    rcases hX_c (M := Mx1) s1 (rw_ sgn - 1) a h8 h01 with h | h
    · refine .inl ⟨h.1, ?_⟩
      rw [if_pos]
      rcases h.2 with h3 | h3
      · exact .inl h3
      · exact .inr (.inr h3)
    · refine .inr ⟨h.1, h.2.2.2, ?_⟩
      rw [if_neg]
      rintro (h3 | h3 | h3 | h3)
      · omega
      · exact any h3
      · exact h.2.1 h3
      · exact h.2.2.1 h3
/-- small facts -/
theorem ER_a [Inhabited gh_] (h : ER b F Mx Mq a o) : 0 ≤ a ∧ a ≤ 1200 := ⟨h.1.1, h.1.2.1⟩
theorem ER_fl [Inhabited gh_] (h : ER b F Mx Mq a o) : 0 ≤ Mx 1 7 ∧ Mx 1 7 < 2147483647 := by
  have h1 := h.1.2.1
  have h2 := h.2.2.2.2.2.2.2.2.2.2.2.1
  have h3 := h.2.2.2.2.2.2.2.2.2.2.2.2.1
  clear h
  omega
theorem ER_st [Inhabited gh_] (h : ER b F Mx Mq a o) : 0 ≤ Mx 5 3 ∧ Mx 5 3 < 12000 := by
  have h1 := h.1.2.1
  have h2 := h.2.2.2.2.2.2.2.2.2.2.2.2.2.1
  have h3 := h.2.2.2.2.2.2.2.2.2.2.2.2.2.2
  clear h
  omega
theorem ER_iX [Inhabited gh_] (h : ER b F Mx Mq a o) : iX_ Mx := by unfold iX_; rw [h.2.1]; exact ER_a h
/-- X's memory when it has asked the left part for a sort -/
def hM9 (M : mm_) (k s a : Int) : mm_ := if sh_ k = 25 ∨ sh_ k = 26 then M else hX_ M s (rw_ (sh_ k) - 1) a
theorem hM9_1 [Inhabited gh_] {k s i : Int} (h4 : i ≠ 4) (h5 : i ≠ 5) (h7 : i ≠ 7) : hM9 Mx1 k s a 1 i = Mx1 1 i := by
  unfold hM9; split
  · rfl
  · exact hX_1 h4 h5 h7
theorem hM9_r [Inhabited gh_] {k s : Int} {r : Nat} (h : r ≠ 1) : hM9 Mx1 k s a r = Mx1 r := by
  unfold hM9; split
  · rfl
  · exact hX_r h
theorem hM9_XF [Inhabited gh_] {k s : Int} : XF Mx1 (hM9 Mx1 k s a) := by
  unfold hM9; split
  · exact XF_rf
  · exact hX_XF
theorem hM9_0 [Inhabited gh_] {k s : Int} (h : Mx1 1 8 = 0) : hM9 Mx1 k s a = Mx1 := by
  unfold hM9 hX_; split
  · rfl
  · rw [if_pos (.inl h)]
def F9 (b F k s p : Int) : Int := if b = 0 ∨ (sh_ k = 25 ∨ sh_ k = 26) ∨ s = -1 ∨ s = rw_ (sh_ k) - 1 then F else min F (8 * p + 5)
/-- ahead of the right part, for whatever sign -/
theorem rnd_pre [Inhabited gh_] {lev c' : Int} (hR : PR b F Mx Mq a o sg ws c cm f fm cc cd) (hP : EP n1 b F Mx Mq Mx1 Ms a a1 o sg ws c' cm f fm cc cd y1 s1 t1 bd1 l1) (hB : QB dq lev b Mq Mq1 Ms a1 sg c' cm f) (hc01 : c' = 0 ∨ c' = 1) (hlv : lv_ (Mx 70 a1) ≠ 0) (hlev : lv_ (Mx 70 a1) ≤ lev) (htl : tl_ sg < lv_ (Mx 70 a1)) (hc3 : lv_ (Mx 70 a1) = 3 → c' = 0) (h12 : a1 < 1200) :
    PR b (F9 b F (Mx 70 a1) s1 (Mx 71 a)) (nX_ (hM9 Mx1 (Mx 70 a1) s1 a)) (mi_ Ms cm.length (cn_ (lv_ (Mx 70 a1)) c') (sh_ (Mx 70 a1)) a1) (a1 + 1) o ((sh_ (Mx 70 a1), a1) :: sg) ((t1, Mx 71 a, bd1) :: ws) (cn_ (lv_ (Mx 70 a1)) c') cm f (l1 ++ fm) cc (y1 ++ cd)
    ∧ Rq dq 0 Mq 0 (mi_ Ms cm.length (cn_ (lv_ (Mx 70 a1)) c') (sh_ (Mx 70 a1)) a1) ∧ XF Mx (nX_ (hM9 Mx1 (Mx 70 a1) s1 a)) ∧ QF Mq (mi_ Ms cm.length (cn_ (lv_ (Mx 70 a1)) c') (sh_ (Mx 70 a1)) a1) ∧ nX_ (hM9 Mx1 (Mx 70 a1) s1 a) 70 = Mx 70 ∧ nX_ (hM9 Mx1 (Mx 70 a1) s1 a) 1 3 = a1 + 1 ∧ nX_ (hM9 Mx1 (Mx 70 a1) s1 a) 1 2 = 5 := by
  have hER := hP.2.2.2.1
  have hc := mh_c (Mx := Mx) (F := F) (sgn := sh_ (Mx 70 a1)) (Mh := hM9 Mx1 (Mx 70 a1) s1 a) (F2 := F9 b F (Mx 70 a1) s1 (Mx 71 a)) hER.2.2.2.2.2.2.1 hER.2.2.2.2.2.2.2.2.1 rfl rfl
  have hPR := PR_mid hR hP hc01 rfl hlv h12 hc
  have hL := hR.2.2.2.2.2
  have hX2 : XF Mx (nX_ (hM9 Mx1 (Mx 70 a1) s1 a)) := XF_tr hP.2.1 (XF_tr hM9_XF nX_XF)
  refine ⟨hPR, QB_sign hR.1 hP hB hL.2.2.2.1 hL.2.2.2.2.1 rfl hlv hlev htl h12 hc3 hc01 hL.2.2.2.2.2.1, hX2, QF_tr hP.2.2.1 mi_QF, XF_70 hX2 (by decide) (by decide) (by decide), hPR.2.2.1.2.1, hPR.2.1.1⟩
/-- behind the right part -/
theorem rnd_post [Inhabited gh_] {lev2 c' c3 a3 s2 t2 bd2 n3 : Int} {Mx3 Mq3 Ms3 : mm_} {y2 : List Int} {l2 : List (Int × Int)} (hR : PR b F Mx Mq a o sg ws c cm f fm cc cd) (hP : EP n1 b F Mx Mq Mx1 Ms a a1 o sg ws c' cm f fm cc cd y1 s1 t1 bd1 l1) (hlv : lv_ (Mx 70 a1) ≠ 0) (hlev : lv_ (Mx 70 a1) ≤ lev2) (h12 : a1 < 1200)
    (hs1 : b = 1 → bd1 = 1 → s1 = -1 ∨ (s1 = rw_ (sh_ (Mx 70 a1)) - 1 ∧ ¬ (sh_ (Mx 70 a1) = 25 ∨ sh_ (Mx 70 a1) = 26)))
    (hsign : Rq dq 0 Mq 0 (mi_ Ms cm.length (cn_ (lv_ (Mx 70 a1)) c') (sh_ (Mx 70 a1)) a1))
    (hP2 : EP n2 b (F9 b F (Mx 70 a1) s1 (Mx 71 a)) (nX_ (hM9 Mx1 (Mx 70 a1) s1 a)) (mi_ Ms cm.length (cn_ (lv_ (Mx 70 a1)) c') (sh_ (Mx 70 a1)) a1) Mx3 Ms3 (a1 + 1) a3 o ((sh_ (Mx 70 a1), a1) :: sg) ((t1, Mx 71 a, bd1) :: ws) c3 cm f (l1 ++ fm) cc (y1 ++ cd) y2 s2 t2 bd2 l2)
    (hs2 : b = 1 → bd2 = 1 → s2 = -1) (hB2 : QB dq lev2 b (mi_ Ms cm.length (cn_ (lv_ (Mx 70 a1)) c') (sh_ (Mx 70 a1)) a1) Mq3 Ms3 a3 ((sh_ (Mx 70 a1), a1) :: sg) c3 cm f)
    (hn : b = 1 → bd1 = 0 → bd2 = 0 → (if sh_ (Mx 70 a1) = 25 ∨ sh_ (Mx 70 a1) = 26 then t1 = t2 else t1 = rw_ (sh_ (Mx 70 a1)) ∧ t2 = rw_ (sh_ (Mx 70 a1))) → n1 ≤ n3 ∧ n2 + 1 ≤ n3) :
    ∃ (Ms4 : mm_) (y4 : List Int) (bd4 : Int) (l4 : List (Int × Int)), EP n3 b F Mx Mq (pX_ (hX_ Mx3 s2 (if sh_ (Mx 70 a1) = 25 ∨ sh_ (Mx 70 a1) = 26 then s1 else rw_ (sh_ (Mx 70 a1)) - 1) (a1 + 1)) (xo9_ (sh_ (Mx 70 a1)))) Ms4 a a3 o sg ws c3 cm f fm cc cd y4 ((if sh_ (Mx 70 a1) < 25 then 1 else 2) - 1) (if sh_ (Mx 70 a1) < 25 then 1 else 2) bd4 l4 ∧ QB dq (lv_ (Mx 70 a1)) b Mq Mq3 Ms4 a3 sg c3 cm f := by
  have hL := hR.2.2.2.2.2
  have hbin := QB_bin (c2 := 0) (Mx := Mx) hL hP.2.2.2.2.2.1 hP.2.2.2.2.2.2.1 (sh_r (k := Mx 70 a1)).1 (lo_sh hlv) hsign (QF_tr hP.2.2.1 mi_QF) hP2 hB2 hlev
  exact ⟨_, _, _, _, EP_bin (n := n3) hR.1 hR.2.2.1.1 hP rfl rfl hlv h12 rfl rfl hP2 hs1 hs2 hbin.1 hbin.2.1 hn, hbin.2.2⟩
end PD
end T75_er
section T76_er
/-! X's way over a sign: goes, the right part, its sort, the step -/
section RT
variable {dq D n : Nat} {n1 b F : Int} {Mx Mq Mx1 Mq1 Ms : mm_} {a a1 o : Int} {sg : List (Int × Int)} {ws : List (Int × Int × Int)} {c c1 : Int} {cm : List Int} {f : Int} {fm : List (Int × Int)} {cc : Int} {cd y1 : List Int} {s1 t1 bd1 k : Int} {l1 : List (Int × Int)} {K : Int → mm_ → Prop} {Kv : mm_ → Prop} {Qr : qr_} {Qt : qt_} {V : vv_}
theorem SA_SB [Inhabited gh_] {m nt : Nat} (h : SA m nt D dq n o) : SB m nt 6 (nU n) D dq o := by
  intro b F Mx Mq a sg ws c cm f fm cc cd K Qt hR hnp htl hc3 hS hK hQ
  refine h b F Mx Mq a sg ws c cm f fm cc cd K Qt hR hS ?_ hQ
  intro s Mx' Mq' a' y t bd l hP hs hx hS2
  have hB := un_B hnp hR.2.2.2.2.2 hP hx
  refine hK s Mx' Mq' Mq' a' c y t bd l hP hs ⟨hB.1, Red_rf, hB.2.2⟩ hS2 hR.2.2.2.2.2.2.2.1 ⟨fun h9 => ?_, fun _ => rfl⟩
  have := (lv_r (k := Mx 70 a')).2
  exact absurd h9 (by clear hK hQ hS hP hB hR; omega)
theorem x_rt [Inhabited gh_] {m nt2 : Nat} {lev lev2 c' w op n3 : Int} {nd : Int → Int} {G : mm_ → Prop} (hSB : SB m nt2 lev2 nd (D + 3) dq o) (hR : PR b F Mx Mq a o sg ws c cm f fm cc cd) (hP : EP n1 b F Mx Mq Mx1 Ms a a1 o sg ws c' cm f fm cc cd y1 s1 t1 bd1 l1) (hB : QB dq lev b Mq Mq1 Ms a1 sg c' cm f) (hc01 : c' = 0 ∨ c' = 1)
    (hlv : lv_ (Mx 70 a1) ≠ 0) (hlev : lv_ (Mx 70 a1) ≤ lev) (hlev2 : lv_ (Mx 70 a1) < lev2) (htl : tl_ sg < lv_ (Mx 70 a1)) (hc3 : lv_ (Mx 70 a1) = 3 → c' = 0) (hcn : lev2 ≤ 3 → cn_ (lv_ (Mx 70 a1)) c' = 0) (hw : w = if sh_ (Mx 70 a1) = 25 ∨ sh_ (Mx 70 a1) = 26 then s1 else rw_ (sh_ (Mx 70 a1)) - 1) (hop : op = xo9_ (sh_ (Mx 70 a1)))
    (hs1 : b = 1 → bd1 = 1 → s1 = -1 ∨ (s1 = rw_ (sh_ (Mx 70 a1)) - 1 ∧ ¬ (sh_ (Mx 70 a1) = 25 ∨ sh_ (Mx 70 a1) = 26)))
    (hS : b = 1 → a1 < 1200 ∧ ES (Mx 70) nt2 o (a1 + 1) ≠ none)
    (hn : ∀ t2 : Int, (if sh_ (Mx 70 a1) = 25 ∨ sh_ (Mx 70 a1) = 26 then t1 = t2 else t1 = rw_ (sh_ (Mx 70 a1)) ∧ t2 = rw_ (sh_ (Mx 70 a1))) → n1 ≤ n3 ∧ nd t2 + 1 ≤ n3)
    (hG : ∀ (Mx4 Mq3 Ms4 : mm_) (a3 c3 bd4 : Int) (y4 : List Int) (l4 : List (Int × Int)), a1 < 1200 → EP n3 b F Mx Mq Mx4 Ms4 a a3 o sg ws c3 cm f fm cc cd y4 ((if sh_ (Mx 70 a1) < 25 then 1 else 2) - 1) (if sh_ (Mx 70 a1) < 25 then 1 else 2) bd4 l4 → QB dq (lv_ (Mx 70 a1)) b Mq Mq3 Ms4 a3 sg c3 cm f → ES (Mx 70) nt2 o (a1 + 1) = some a3 → a1 < a3 → (c3 = 0 ∨ c3 = 1) → NX lev2 (Mx 70 a3) (cn_ (lv_ (Mx 70 a1)) c') c3 → G Mx4)
    (hQ : b = 0 → ∀ Mx', XW dq 0 Mx Mq Mx' → Qt 8 Mx') :
    Tr_ wd0 pg0 (D + 3) 105 [.inr (.inr 1)] (hM9 Mx1 (Mx 70 a1) s1 a) (rv_ fun M1 => Tr_ wd0 pg0 (D + 3) m [.inr (.inr 1)] M1 (ri_ fun v1 M2 => Tr_ wd0 pg0 (D + 3) 156 [.inr (.inr 1), .inl v1, .inl w, .inl (M1 1 3)] M2 (rv_ fun M3 => Tr_ wd0 pg0 (D + 3) 138 [.inr (.inr 1), .inl op] M3 (rv_ G) Qt) Qt) Qt) Qt := by
  have hER := hP.2.2.2.1
  have h3 : hM9 Mx1 (Mx 70 a1) s1 a 1 3 = a1 := by rw [hM9_1 (by decide) (by decide) (by decide)]; exact hER.2.1
  have hi : iX_ (hM9 Mx1 (Mx 70 a1) s1 a) := by unfold iX_; rw [h3]; exact ER_a hER
  have hL := hR.2.2.2.2.2
  refine x_105 hi (fun h9 => ?_) (fun h9 => ?_)
  · rw [h3] at h9
    obtain ⟨p1, p2, p3, p4, p5, p6, p7⟩ := rnd_pre hR hP hB hc01 hlv hlev htl hc3 h9
    refine hSB b _ _ _ (a1 + 1) _ _ _ cm f _ cc _ _ _ p1 ?_ ?_ hcn (fun h => by rw [p5]; exact (hS h).2) ?_ (fun h Mx' hw => hQ h Mx' (XW_tr p3 p4 p2 hw))
    · have := (sh_r (k := Mx 70 a1)).1
      refine ⟨?_, ?_⟩
      · show sh_ (Mx 70 a1) ≠ 13
        intro e; rw [e] at this; exact absurd this (by decide)
      · show sh_ (Mx 70 a1) ≠ 14
        intro e; rw [e] at this; exact absurd this (by decide)
    · show lo9_ (sh_ (Mx 70 a1)) < lev2
      rw [lo_sh hlv]; exact hlev2
    · intro s2 Mx3 Mq3 Ms3 a3 c3 y2 t2 bd2 l2 hP2 hs2 hB2 hS4 h301 hNX
      rw [p5] at hS4 hNX
      have w1 := hP2.2.2.2.1
      rw [p6]
      refine x_156 (by have := (ER_a hER).1; omega) (by omega) (ER_fl w1).1 (ER_fl w1).2 ?_
      refine x_138 ?_ ?_ ?_ ?_
      · rw [hX_1 (by decide) (by decide) (by decide), hP2.2.1.2.1 2 (by decide) (by decide) (by decide) (by decide) (by decide)]; exact p7
      · rw [hX_r (by decide)]; exact (ER_st w1).1
      · rw [hX_r (by decide)]; exact (ER_st w1).2
      · obtain ⟨Ms4, y4, bd4, l4, q1, q2⟩ := rnd_post (n3 := n3) hR hP hlv (Int.le_of_lt hlev2) h9 hs1 p2 hP2 hs2 hB2 (fun _ _ _ ht => hn t2 ht)
        rw [hw, hop]
        exact hG _ _ _ a3 c3 bd4 y4 l4 h9 q1 q2 hS4 (by have := hP2.1; omega) h301 hNX
  · rw [h3] at h9
    have hb0 : b = 0 := by
      rcases hER.2.2.2.2.2.2.2.2.1 with h | h
      · exact h
      · exact absurd (hS h).1 (by omega)
    refine hQ hb0 _ ?_
    rw [h3, hM9_0 (by rw [hER.2.2.2.2.2.2.1]; exact hb0)]
    exact QB_room hR.1 hb0 hP hB hL.2.2.2.1 hL.2.2.2.2.1 rfl hlv hlev htl h9 hc3 hc01 hL.2.2.2.2.2.1
end RT
end T76_er
section T77_er
/-! prod, sum, con, e: their loops -/
theorem gb_ne [Inhabited gh_] {a : Int} {E g : Int → Option Int} (h : ((gS a).bind fun a2 => (E a2).bind g) ≠ none) : a < 1200 ∧ E (a + 1) ≠ none := by
  by_cases c : a < 1200
  · refine ⟨c, fun h2 => h ?_⟩
    unfold gS; rw [if_pos c]
    show (E (a + 1)).bind g = none
    rw [h2]; rfl
  · exact absurd (by unfold gS; rw [if_neg c]; rfl) h
theorem gb_eq [Inhabited gh_] {a r : Int} {E g : Int → Option Int} (h : a < 1200) (h2 : E (a + 1) = some r) : ((gS a).bind fun a2 => (E a2).bind g) = g r := by
  unfold gS; rw [if_pos h]
  show (E (a + 1)).bind g = g r
  rw [h2]; rfl
theorem hM9_e [Inhabited gh_] {M : mm_} {k s a w : Int} (h : ¬ (sh_ k = 25 ∨ sh_ k = 26)) (hw : w = rw_ (sh_ k) - 1) : hM9 M k s a = hX_ M s w a := by unfold hM9; rw [if_neg h, hw]
theorem k5_ [Inhabited gh_] {k : Int} (h : lv_ k = 5) : k = 242 ∨ k = 247 ∨ k = 237 := by
  unfold lv_ at h
  repeat' split at h
  all_goals omega
theorem k4_ [Inhabited gh_] {k : Int} (h : lv_ k = 4) : k = 243 ∨ k = 245 := by
  unfold lv_ at h
  repeat' split at h
  all_goals omega
theorem k2_ [Inhabited gh_] {k : Int} (h : lv_ k = 2) : k = 42 := by
  unfold lv_ at h
  repeat' split at h
  all_goals omega
theorem k1_ [Inhabited gh_] {k : Int} (h : lv_ k = 1) : k = 43 := by
  unfold lv_ at h
  repeat' split at h
  all_goals omega
theorem k3_ [Inhabited gh_] {k : Int} (h : lv_ k = 3) : k = 261 ∨ k = 111 ∨ k = 260 ∨ k = 112 ∨ k = 262 ∨ k = 113 := by
  unfold lv_ at h
  repeat' split at h
  all_goals omega
section LO
variable {dq D n : Nat} {b F : Int} {Mx Mq : mm_} {a o : Int} {sg : List (Int × Int)} {ws : List (Int × Int × Int)} {c : Int} {cm : List Int} {f : Int} {fm : List (Int × Int)} {cc : Int} {cd : List Int} {K : Int → mm_ → Prop} {Qt : qt_} {V : vv_}
theorem l_150 [Inhabited gh_] (hSB : SB 151 5 6 (nU n) (D + 3) dq o) (hV : Cl_ wd0 (Tr_ wd0 pg0 (D + 3)) V (ri_ K) Qt m_150) (hW : Wk_ V) (hR : PR b F Mx Mq a o sg ws c cm f fm cc cd) (htl : tl_ sg < 5)
    (hK : ∀ s Mx' Mq' Ms a' c' y t bd l, EP (nP n t) b F Mx Mq Mx' Ms a a' o sg ws c' cm f fm cc cd y s t bd l → (b = 1 → bd = 1 → s = -1) → QB dq 5 b Mq Mq' Ms a' sg c' cm f → ES (Mx 70) 4 o a = some a' → (c' = 0 ∨ c' = 1) → NX 5 (Mx 70 a') c c' → K s Mx')
    (hQ : b = 0 → ∀ Mx', XW dq 0 Mx Mq Mx' → Qt 8 Mx') :
    ∀ (j : Nat) (Mx1 Mq1 Ms : mm_) (a1 s1 t1 bd1 : Int) (y1 : List Int) (l1 : List (Int × Int)), (1201 - a1).toNat ≤ j → EP (nP n t1) b F Mx Mq Mx1 Ms a a1 o sg ws c cm f fm cc cd y1 s1 t1 bd1 l1 → (b = 1 → bd1 = 1 → s1 = -1 ∨ s1 = 0) → QB dq 5 b Mq Mq1 Ms a1 sg c cm f → (b = 1 → ES (Mx 70) 10 o a1 ≠ none) → ES (Mx 70) 4 o a = ES (Mx 70) 10 o a1 → V 15 [rr 1, ii (Mx 1 7), ii a, ii s1, none, none] [] Mx1 := by
  have hc01 : c = 0 ∨ c = 1 := hR.2.2.2.2.2.2.2.1
  have hER0 := hR.2.2.1
  intro j
  induction j with
  | zero =>
    intro Mx1 Mq1 Ms a1 s1 t1 bd1 y1 l1 hj hP
    have := hP.2.2.2.1.1.2.1
    clear hK hQ hSB
    omega
  | succ j ih =>
    intro Mx1 Mq1 Ms a1 s1 t1 bd1 y1 l1 hj hP hs1 hB hS hS2
    have hER := hP.2.2.2.1
    have hiX := EP_iX hP
    have e70 := EP_70 hP
    have ha1 := ER_a hER
    have hfl := ER_fl hER
    rw [ES_10 ha1.1 ha1.2] at hS hS2
    have out : lv_ (Mx 70 a1) ≠ 5 → (if Mx1 1 7 ≤ Mx 1 7 then ri_ K [.inl s1] Mx1 else ri_ K [.inl (-1)] Mx1) := by
      intro h5
      rw [if_neg h5] at hS2
      have hp := EP_ret hP (s := if Mx1 1 7 ≤ Mx 1 7 then s1 else -1) rfl
      have hk := hK _ _ _ _ _ _ _ _ _ _ hp.1 hp.2 hB hS2 hc01 ?_
      · split
        · rename_i h; rw [if_pos h] at hk; exact ri_i hk
        · rename_i h; rw [if_neg h] at hk; exact ri_i hk
      · clear ih hK hQ hSB hP hB hp
        have h9 := lv_r (k := Mx 70 a1)
        exact ⟨fun h8 => absurd h8 (by omega), fun _ => rfl⟩
    have pre : lv_ (Mx 70 a1) = 5 → lv_ (Mx 70 a1) ≠ 0 ∧ ¬ (sh_ (Mx 70 a1) = 25 ∨ sh_ (Mx 70 a1) = 26) ∧ rw_ (sh_ (Mx 70 a1)) = 1 ∧ (if sh_ (Mx 70 a1) < 25 then (1 : Int) else 2) = 1 := by
      intro h5
      have hk := k5_ h5
      clear ih hK hQ hSB hP hB hR
      rcases hk with h | h | h <;> (rw [h]; decide)
    refine b_150_15 (Tr_mono _) hV hW _ _ _ Mx1 ?_
    have sign : lv_ (Mx 70 a1) = 5 → V 42 [rr 1, ii (Mx 1 7), ii a, ii s1, none, none] [] Mx1 := by
      intro h5
      obtain ⟨hlv0, hany, hrw, hlt⟩ := pre h5
      rw [if_pos h5] at hS hS2
      refine b_150_42 (Tr_mono _) hV hW _ _ _ Mx1 ?_
      refine x_156 hER0.1.1 (Int.lt_of_le_of_lt hER0.1.2.1 (by decide)) hfl.1 hfl.2 ?_
      have hw9 : (0 : Int) = if sh_ (Mx 70 a1) = 25 ∨ sh_ (Mx 70 a1) = 26 then s1 else rw_ (sh_ (Mx 70 a1)) - 1 := by rw [if_neg hany, hrw]; rfl
      rw [← hM9_e (k := Mx 70 a1) hany (by rw [hrw]; rfl)]
      have hiM : iX_ (hM9 Mx1 (Mx 70 a1) s1 a) := by unfold iX_; rw [hM9_1 (by decide) (by decide) (by decide)]; exact hiX
      have e70M : hM9 Mx1 (Mx 70 a1) s1 a 70 (hM9 Mx1 (Mx 70 a1) s1 a 1 3) = Mx 70 a1 := by rw [hM9_1 (by decide) (by decide) (by decide), hM9_r (by decide)]; exact e70
      have fin : ∀ op : Int, op = xo9_ (sh_ (Mx 70 a1)) → V 81 [rr 1, ii (Mx 1 7), ii a, ii s1, ii op, none] [] (hM9 Mx1 (Mx 70 a1) s1 a) := by
        intro op hop
        refine b_150_81 (Tr_mono _) hV hW _ _ _ op _ ?_
        refine x_rt (n3 := nP n 1) hSB hR hP hB hc01 hlv0 (Int.le_of_eq h5) (by rw [h5]; decide) (by rw [h5]; exact htl) (fun h => absurd (h5.symm.trans h) (by decide)) (fun h => absurd h (by decide)) hw9 hop (fun h1 h2 => (hs1 h1 h2).elim .inl (fun h => .inr ⟨by rw [hrw]; exact h, hany⟩)) (fun h => gb_ne (hS h)) (fun t2 ht => ?_) ?_ hQ
        · rw [if_neg hany, hrw] at ht
          rw [ht.1, ht.2]
          unfold nP nU
          clear ih hK hQ hSB hP hB hR
          rw [if_pos rfl, if_pos rfl]; omega
        · intro Mx4 Mq3 Ms4 a3 c3 bd4 y4 l4 h12 hP4 hB4 hS4 h13 h301 hNX
          rw [h5] at hB4 hNX
          rw [gb_eq h12 hS4] at hS hS2
          rw [hlt] at hP4
          have hc3 : c3 = c := hNX.2 (by decide)
          rw [hc3] at hP4 hB4 hNX
          skip
          exact ih _ _ _ a3 0 1 bd4 y4 l4 (by clear ih hK hQ hSB hP hB hR hP4 hB4; omega) hP4 (fun _ _ => .inr rfl) hB4 hS hS2
      have hk := k5_ h5
      refine x_117 hiM (by decide) (by decide) (fun h9 => ?_) (fun h9 => ?_)
      · rw [if_neg (by decide)]; rw [e70M] at h9; exact fin 12 (by rw [h9]; decide)
      · rw [if_pos rfl]
        refine x_117 hiM (by decide) (by decide) (fun h8 => ?_) (fun h8 => ?_)
        · rw [if_neg (by decide)]; rw [e70M] at h8; exact fin 13 (by rw [h8]; decide)
        · rw [if_pos rfl]; rw [e70M] at h8 h9
          have h7 : Mx 70 a1 = 237 := by
            rcases hk with h | h | h
            · exact absurd h h9
            · exact absurd h h8
            · exact h
          exact fin 14 (by rw [h7]; decide)
    refine x_117 hiX (by decide) (by decide) (fun h9 => ?_) (fun h9 => ?_)
    · rw [if_neg (by decide)]; rw [e70] at h9; exact sign (by rw [h9]; decide)
    · rw [if_pos rfl]
      refine x_117 hiX (by decide) (by decide) (fun h8 => ?_) (fun h8 => ?_)
      · rw [if_neg (by decide)]; rw [e70] at h8; exact sign (by rw [h8]; decide)
      · rw [if_pos rfl]
        refine x_117 hiX (by decide) (by decide) (fun h7 => ?_) (fun h7 => ?_)
        · rw [if_neg (by decide)]; rw [e70] at h7; exact sign (by rw [h7]; decide)
        · rw [if_pos rfl]
          rw [e70] at h7 h8 h9
          refine out (fun h => ?_)
          rcases k5_ h with h6 | h6 | h6
          · exact h9 h6
          · exact h8 h6
          · exact h7 h6
theorem l_149 [Inhabited gh_] (hSB : SB 150 4 5 (nP n) (D + 3) dq o) (hV : Cl_ wd0 (Tr_ wd0 pg0 (D + 3)) V (ri_ K) Qt m_149) (hW : Wk_ V) (hR : PR b F Mx Mq a o sg ws c cm f fm cc cd) (htl : tl_ sg < 4)
    (hK : ∀ s Mx' Mq' Ms a' c' y t bd l, EP (nS n t) b F Mx Mq Mx' Ms a a' o sg ws c' cm f fm cc cd y s t bd l → (b = 1 → bd = 1 → s = -1) → QB dq 4 b Mq Mq' Ms a' sg c' cm f → ES (Mx 70) 3 o a = some a' → (c' = 0 ∨ c' = 1) → NX 4 (Mx 70 a') c c' → K s Mx')
    (hQ : b = 0 → ∀ Mx', XW dq 0 Mx Mq Mx' → Qt 8 Mx') :
    ∀ (j : Nat) (Mx1 Mq1 Ms : mm_) (a1 s1 t1 bd1 : Int) (y1 : List Int) (l1 : List (Int × Int)), (1201 - a1).toNat ≤ j → EP (nS n t1) b F Mx Mq Mx1 Ms a a1 o sg ws c cm f fm cc cd y1 s1 t1 bd1 l1 → (b = 1 → bd1 = 1 → s1 = -1 ∨ s1 = 0) → QB dq 4 b Mq Mq1 Ms a1 sg c cm f → NX 5 (Mx 70 a1) c c → (b = 1 → ES (Mx 70) 9 o a1 ≠ none) → ES (Mx 70) 3 o a = ES (Mx 70) 9 o a1 → V 15 [rr 1, ii (Mx 1 7), ii a, ii s1, none, none] [] Mx1 := by
  have hc01 : c = 0 ∨ c = 1 := hR.2.2.2.2.2.2.2.1
  have hER0 := hR.2.2.1
  intro j
  induction j with
  | zero =>
    intro Mx1 Mq1 Ms a1 s1 t1 bd1 y1 l1 hj hP
    have := hP.2.2.2.1.1.2.1
    clear hK hQ hSB
    omega
  | succ j ih =>
    intro Mx1 Mq1 Ms a1 s1 t1 bd1 y1 l1 hj hP hs1 hB hN1 hS hS2
    have hER := hP.2.2.2.1
    have hiX := EP_iX hP
    have e70 := EP_70 hP
    have ha1 := ER_a hER
    have hfl := ER_fl hER
    rw [ES_9 ha1.1 ha1.2] at hS hS2
    have out : lv_ (Mx 70 a1) ≠ 4 → (if Mx1 1 7 ≤ Mx 1 7 then ri_ K [.inl s1] Mx1 else ri_ K [.inl (-1)] Mx1) := by
      intro h5
      rw [if_neg h5] at hS2
      have hp := EP_ret hP (s := if Mx1 1 7 ≤ Mx 1 7 then s1 else -1) rfl
      have hk := hK _ _ _ _ _ _ _ _ _ _ hp.1 hp.2 hB hS2 hc01 ?_
      · split
        · rename_i h; rw [if_pos h] at hk; exact ri_i hk
        · rename_i h; rw [if_neg h] at hk; exact ri_i hk
      · clear ih hK hQ hSB hP hB hp
        have h9 := lv_r (k := Mx 70 a1)
        refine ⟨fun h8 => ?_, fun h8 => ?_⟩
        · exact absurd h8 (fun h7 => by have h6 := hN1.1; omega)
        · rfl
    have pre : lv_ (Mx 70 a1) = 4 → lv_ (Mx 70 a1) ≠ 0 ∧ ¬ (sh_ (Mx 70 a1) = 25 ∨ sh_ (Mx 70 a1) = 26) ∧ rw_ (sh_ (Mx 70 a1)) = 1 ∧ (if sh_ (Mx 70 a1) < 25 then (1 : Int) else 2) = 1 := by
      intro h5
      have hk := k4_ h5
      clear ih hK hQ hSB hP hB hR
      rcases hk with h | h <;> (rw [h]; decide)
    refine b_149_15 (Tr_mono _) hV hW _ _ _ Mx1 ?_
    have sign : lv_ (Mx 70 a1) = 4 → Tr_ wd0 pg0 (D + 3) 156 [.inr (.inr 1), .inl s1, .inl 0, .inl a] Mx1 (rv_ fun M5 => Tr_ wd0 pg0 (D + 3) 117 [.inr (.inr 1), .inl 43] M5 (ri_ fun v4 M6 => (if v4 = 0 then V 58 [rr 1, ii (Mx 1 7), ii a, ii s1, ii 11, none] [] M6 else V 58 [rr 1, ii (Mx 1 7), ii a, ii s1, ii 10, none] [] M6)) Qt) Qt := by
      intro h5
      obtain ⟨hlv0, hany, hrw, hlt⟩ := pre h5
      rw [if_pos h5] at hS hS2
      refine x_156 hER0.1.1 (Int.lt_of_le_of_lt hER0.1.2.1 (by decide)) hfl.1 hfl.2 ?_
      have hw9 : (0 : Int) = if sh_ (Mx 70 a1) = 25 ∨ sh_ (Mx 70 a1) = 26 then s1 else rw_ (sh_ (Mx 70 a1)) - 1 := by rw [if_neg hany, hrw]; rfl
      rw [← hM9_e (k := Mx 70 a1) hany (by rw [hrw]; rfl)]
      have hiM : iX_ (hM9 Mx1 (Mx 70 a1) s1 a) := by unfold iX_; rw [hM9_1 (by decide) (by decide) (by decide)]; exact hiX
      have e70M : hM9 Mx1 (Mx 70 a1) s1 a 70 (hM9 Mx1 (Mx 70 a1) s1 a 1 3) = Mx 70 a1 := by rw [hM9_1 (by decide) (by decide) (by decide), hM9_r (by decide)]; exact e70
      have fin : ∀ op : Int, op = xo9_ (sh_ (Mx 70 a1)) → V 58 [rr 1, ii (Mx 1 7), ii a, ii s1, ii op, none] [] (hM9 Mx1 (Mx 70 a1) s1 a) := by
        intro op hop
        refine b_149_58 (Tr_mono _) hV hW _ _ _ op _ ?_
        refine x_rt (n3 := nS n 1) hSB hR hP hB hc01 hlv0 (Int.le_of_eq h5) (by rw [h5]; decide) (by rw [h5]; exact htl) (fun h => absurd (h5.symm.trans h) (by decide)) (fun h => absurd h (by decide)) hw9 hop (fun h1 h2 => (hs1 h1 h2).elim .inl (fun h => .inr ⟨by rw [hrw]; exact h, hany⟩)) (fun h => gb_ne (hS h)) (fun t2 ht => ?_) ?_ hQ
        · rw [if_neg hany, hrw] at ht
          rw [ht.1, ht.2]
          unfold nS nP
          clear ih hK hQ hSB hP hB hR
          rw [if_pos rfl, if_pos rfl]; omega
        · intro Mx4 Mq3 Ms4 a3 c3 bd4 y4 l4 h12 hP4 hB4 hS4 h13 h301 hNX
          rw [h5] at hB4 hNX
          rw [gb_eq h12 hS4] at hS hS2
          rw [hlt] at hP4
          have hc3 : c3 = c := hNX.2 (by decide)
          rw [hc3] at hP4 hB4 hNX
          have hNX2 : NX 5 (Mx 70 a3) c c := ⟨hNX.1, fun _ => rfl⟩
          exact ih _ _ _ a3 0 1 bd4 y4 l4 (by clear ih hK hQ hSB hP hB hR hP4 hB4; omega) hP4 (fun _ _ => .inr rfl) hB4 hNX2 hS hS2
      have hk := k4_ h5
      refine x_117 hiM (by decide) (by decide) (fun h9 => ?_) (fun h9 => ?_)
      · rw [if_neg (by decide)]; rw [e70M] at h9; exact fin 10 (by rw [h9]; decide)
      · rw [if_pos rfl]; rw [e70M] at h9
        have h7 : Mx 70 a1 = 245 := hk.resolve_left h9
        exact fin 11 (by rw [h7]; decide)
    refine x_117 hiX (by decide) (by decide) (fun h9 => ?_) (fun h9 => ?_)
    · rw [if_neg (by decide)]; rw [e70] at h9; exact sign (by rw [h9]; decide)
    · rw [if_pos rfl]
      refine x_117 hiX (by decide) (by decide) (fun h8 => ?_) (fun h8 => ?_)
      · rw [if_neg (by decide)]; rw [e70] at h8; exact sign (by rw [h8]; decide)
      · rw [if_pos rfl]
        rw [e70] at h8 h9
        exact out (fun h => (k4_ h).elim h9 h8)
theorem l_147 [Inhabited gh_] (hSB : SB 148 2 3 (nR n) (D + 3) dq o) (hV : Cl_ wd0 (Tr_ wd0 pg0 (D + 3)) V (ri_ K) Qt m_147) (hW : Wk_ V) (hR : PR b F Mx Mq a o sg ws c cm f fm cc cd) (htl : tl_ sg < 2)
    (hK : ∀ s Mx' Mq' Ms a' c' y t bd l, EP (nC n t) b F Mx Mq Mx' Ms a a' o sg ws c' cm f fm cc cd y s t bd l → (b = 1 → bd = 1 → s = -1) → QB dq 2 b Mq Mq' Ms a' sg c' cm f → ES (Mx 70) 1 o a = some a' → (c' = 0 ∨ c' = 1) → NX 2 (Mx 70 a') c c' → K s Mx')
    (hQ : b = 0 → ∀ Mx', XW dq 0 Mx Mq Mx' → Qt 8 Mx') :
    ∀ (j : Nat) (Mx1 Mq1 Ms : mm_) (a1 s1 t1 bd1 : Int) (y1 : List Int) (l1 : List (Int × Int)) (c1 : Int), (1201 - a1).toNat ≤ j → EP (nC n t1) b F Mx Mq Mx1 Ms a a1 o sg ws c1 cm f fm cc cd y1 s1 t1 bd1 l1 → (b = 1 → bd1 = 1 → s1 = -1 ∨ s1 = 1) → QB dq 2 b Mq Mq1 Ms a1 sg c1 cm f → (c1 = 0 ∨ c1 = 1) → NX 3 (Mx 70 a1) 0 c1 → (b = 1 → ES (Mx 70) 8 o a1 ≠ none) → ES (Mx 70) 1 o a = ES (Mx 70) 8 o a1 → V 15 [rr 1, ii (Mx 1 7), ii a, ii s1, none] [] Mx1 := by
  have hc01 : c = 0 ∨ c = 1 := hR.2.2.2.2.2.2.2.1
  have hER0 := hR.2.2.1
  intro j
  induction j with
  | zero =>
    intro Mx1 Mq1 Ms a1 s1 t1 bd1 y1 l1 c1 hj hP
    have := hP.2.2.2.1.1.2.1
    clear hK hQ hSB
    omega
  | succ j ih =>
    intro Mx1 Mq1 Ms a1 s1 t1 bd1 y1 l1 c1 hj hP hs1 hB h101 hN1 hS hS2
    have hER := hP.2.2.2.1
    have hiX := EP_iX hP
    have e70 := EP_70 hP
    have ha1 := ER_a hER
    have hfl := ER_fl hER
    rw [ES_8 ha1.1 ha1.2] at hS hS2
    have out : lv_ (Mx 70 a1) ≠ 2 → (if Mx1 1 7 ≤ Mx 1 7 then ri_ K [.inl s1] Mx1 else ri_ K [.inl (-1)] Mx1) := by
      intro h5
      rw [if_neg h5] at hS2
      have hp := EP_ret hP (s := if Mx1 1 7 ≤ Mx 1 7 then s1 else -1) rfl
      have hk := hK _ _ _ _ _ _ _ _ _ _ hp.1 hp.2 hB hS2 h101 ?_
      · split
        · rename_i h; rw [if_pos h] at hk; exact ri_i hk
        · rename_i h; rw [if_neg h] at hk; exact ri_i hk
      · clear ih hK hQ hSB hP hB hp
        have h9 := lv_r (k := Mx 70 a1)
        refine ⟨fun h8 => ?_, fun h8 => ?_⟩
        · by_cases h7 : 3 ≤ lv_ (Mx 70 a1)
          · have := hN1.1 h7
            exact ⟨this.1, by decide, this.2.2⟩
          · exact absurd h8 (by omega)
        · exact absurd h8 (by decide)
    have pre : lv_ (Mx 70 a1) = 2 → lv_ (Mx 70 a1) ≠ 0 ∧ ¬ (sh_ (Mx 70 a1) = 25 ∨ sh_ (Mx 70 a1) = 26) ∧ rw_ (sh_ (Mx 70 a1)) = 2 ∧ (if sh_ (Mx 70 a1) < 25 then (1 : Int) else 2) = 2 := by
      intro h5
      have hk := k2_ h5
      clear ih hK hQ hSB hP hB hR
      have h := hk
      rw [h]; decide
    refine b_147_15 (Tr_mono _) hV hW _ _ _ Mx1 ?_
    refine x_103 hiX (fun h9 => ?_) (fun h9 => ?_)
    · rw [if_neg (by decide)]
      rw [e70] at h9
      have h5 : lv_ (Mx 70 a1) = 2 := by rw [h9]; decide
      obtain ⟨hlv0, hany, hrw, hlt⟩ := pre h5
      rw [if_pos h5] at hS hS2
      refine x_156 hER0.1.1 (Int.lt_of_le_of_lt hER0.1.2.1 (by decide)) hfl.1 hfl.2 ?_
      have hw9 : (1 : Int) = if sh_ (Mx 70 a1) = 25 ∨ sh_ (Mx 70 a1) = 26 then s1 else rw_ (sh_ (Mx 70 a1)) - 1 := by rw [if_neg hany, hrw]; rfl
      rw [← hM9_e (k := Mx 70 a1) hany (by rw [hrw]; rfl)]
      have hop : (17 : Int) = xo9_ (sh_ (Mx 70 a1)) := by rw [h9]; decide
      · refine x_rt (n3 := nC n 2) hSB hR hP hB h101 hlv0 (Int.le_of_eq h5) (by rw [h5]; decide) (by rw [h5]; exact htl) (fun h => absurd (h5.symm.trans h) (by decide)) (fun _ => by rw [h5]; rfl) hw9 hop (fun h1 h2 => (hs1 h1 h2).elim .inl (fun h => .inr ⟨by rw [hrw]; exact h, hany⟩)) (fun h => gb_ne (hS h)) (fun t2 ht => ?_) ?_ hQ
        · rw [if_neg hany, hrw] at ht
          rw [ht.1, ht.2]
          unfold nC nR
          clear ih hK hQ hSB hP hB hR
          rw [if_neg (by decide), if_neg (by decide)]; omega
        · intro Mx4 Mq3 Ms4 a3 c3 bd4 y4 l4 h12 hP4 hB4 hS4 h13 h301 hNX
          rw [h5] at hB4 hNX
          rw [gb_eq h12 hS4] at hS hS2
          rw [hlt] at hP4
          skip
          skip
          skip
          exact ih _ _ _ a3 1 2 bd4 y4 l4 c3 (by clear ih hK hQ hSB hP hB hR hP4 hB4; omega) hP4 (fun _ _ => .inr rfl) hB4 h301 hNX hS hS2
    · rw [if_pos rfl]
      rw [e70] at h9
      exact out (fun h => h9 (k2_ h))
theorem l_146 [Inhabited gh_] (hSB : SB 147 1 2 (nC n) (D + 3) dq o) (hV : Cl_ wd0 (Tr_ wd0 pg0 (D + 3)) V (ri_ K) Qt m_146) (hW : Wk_ V) (hR : PR b F Mx Mq a o sg ws c cm f fm cc cd) (htl : tl_ sg < 1)
    (hK : ∀ s Mx' Mq' Ms a' c' y t bd l, EP (nE n t) b F Mx Mq Mx' Ms a a' o sg ws c' cm f fm cc cd y s t bd l → (b = 1 → bd = 1 → s = -1) → QB dq 1 b Mq Mq' Ms a' sg c' cm f → ES (Mx 70) 0 o a = some a' → (c' = 0 ∨ c' = 1) → NX 1 (Mx 70 a') c c' → K s Mx')
    (hQ : b = 0 → ∀ Mx', XW dq 0 Mx Mq Mx' → Qt 8 Mx') :
    ∀ (j : Nat) (Mx1 Mq1 Ms : mm_) (a1 s1 t1 bd1 : Int) (y1 : List Int) (l1 : List (Int × Int)) (c1 : Int), (1201 - a1).toNat ≤ j → EP (nE n t1) b F Mx Mq Mx1 Ms a a1 o sg ws c1 cm f fm cc cd y1 s1 t1 bd1 l1 → (b = 1 → bd1 = 1 → s1 = -1 ∨ s1 = 1) → QB dq 1 b Mq Mq1 Ms a1 sg c1 cm f → (c1 = 0 ∨ c1 = 1) → NX 2 (Mx 70 a1) 0 c1 → (b = 1 → ES (Mx 70) 7 o a1 ≠ none) → ES (Mx 70) 0 o a = ES (Mx 70) 7 o a1 → V 15 [rr 1, ii (Mx 1 7), ii a, ii s1, none] [] Mx1 := by
  have hc01 : c = 0 ∨ c = 1 := hR.2.2.2.2.2.2.2.1
  have hER0 := hR.2.2.1
  intro j
  induction j with
  | zero =>
    intro Mx1 Mq1 Ms a1 s1 t1 bd1 y1 l1 c1 hj hP
    have := hP.2.2.2.1.1.2.1
    clear hK hQ hSB
    omega
  | succ j ih =>
    intro Mx1 Mq1 Ms a1 s1 t1 bd1 y1 l1 c1 hj hP hs1 hB h101 hN1 hS hS2
    have hER := hP.2.2.2.1
    have hiX := EP_iX hP
    have e70 := EP_70 hP
    have ha1 := ER_a hER
    have hfl := ER_fl hER
    rw [ES_7 ha1.1 ha1.2] at hS hS2
    have out : lv_ (Mx 70 a1) ≠ 1 → (if Mx1 1 7 ≤ Mx 1 7 then ri_ K [.inl s1] Mx1 else ri_ K [.inl (-1)] Mx1) := by
      intro h5
      rw [if_neg h5] at hS2
      have hp := EP_ret hP (s := if Mx1 1 7 ≤ Mx 1 7 then s1 else -1) rfl
      have hk := hK _ _ _ _ _ _ _ _ _ _ hp.1 hp.2 hB hS2 h101 ?_
      · split
        · rename_i h; rw [if_pos h] at hk; exact ri_i hk
        · rename_i h; rw [if_neg h] at hk; exact ri_i hk
      · clear ih hK hQ hSB hP hB hp
        have h9 := lv_r (k := Mx 70 a1)
        refine ⟨fun h8 => ?_, fun h8 => ?_⟩
        · by_cases h7 : 2 ≤ lv_ (Mx 70 a1)
          · have := hN1.1 h7
            exact ⟨this.1, by decide, this.2.2⟩
          · exact absurd h8 (by omega)
        · exact absurd h8 (by decide)
    have pre : lv_ (Mx 70 a1) = 1 → lv_ (Mx 70 a1) ≠ 0 ∧ ¬ (sh_ (Mx 70 a1) = 25 ∨ sh_ (Mx 70 a1) = 26) ∧ rw_ (sh_ (Mx 70 a1)) = 2 ∧ (if sh_ (Mx 70 a1) < 25 then (1 : Int) else 2) = 2 := by
      intro h5
      have hk := k1_ h5
      clear ih hK hQ hSB hP hB hR
      have h := hk
      rw [h]; decide
    refine b_146_15 (Tr_mono _) hV hW _ _ _ Mx1 ?_
    refine x_103 hiX (fun h9 => ?_) (fun h9 => ?_)
    · rw [if_neg (by decide)]
      rw [e70] at h9
      have h5 : lv_ (Mx 70 a1) = 1 := by rw [h9]; decide
      obtain ⟨hlv0, hany, hrw, hlt⟩ := pre h5
      rw [if_pos h5] at hS hS2
      refine x_156 hER0.1.1 (Int.lt_of_le_of_lt hER0.1.2.1 (by decide)) hfl.1 hfl.2 ?_
      have hw9 : (1 : Int) = if sh_ (Mx 70 a1) = 25 ∨ sh_ (Mx 70 a1) = 26 then s1 else rw_ (sh_ (Mx 70 a1)) - 1 := by rw [if_neg hany, hrw]; rfl
      rw [← hM9_e (k := Mx 70 a1) hany (by rw [hrw]; rfl)]
      have hop : (18 : Int) = xo9_ (sh_ (Mx 70 a1)) := by rw [h9]; decide
      · refine x_rt (n3 := nE n 2) hSB hR hP hB h101 hlv0 (Int.le_of_eq h5) (by rw [h5]; decide) (by rw [h5]; exact htl) (fun h => absurd (h5.symm.trans h) (by decide)) (fun _ => by rw [h5]; rfl) hw9 hop (fun h1 h2 => (hs1 h1 h2).elim .inl (fun h => .inr ⟨by rw [hrw]; exact h, hany⟩)) (fun h => gb_ne (hS h)) (fun t2 ht => ?_) ?_ hQ
        · rw [if_neg hany, hrw] at ht
          rw [ht.1, ht.2]
          unfold nE nC
          clear ih hK hQ hSB hP hB hR
          rw [if_neg (by decide), if_neg (by decide)]; omega
        · intro Mx4 Mq3 Ms4 a3 c3 bd4 y4 l4 h12 hP4 hB4 hS4 h13 h301 hNX
          rw [h5] at hB4 hNX
          rw [gb_eq h12 hS4] at hS hS2
          rw [hlt] at hP4
          skip
          skip
          skip
          exact ih _ _ _ a3 1 2 bd4 y4 l4 c3 (by clear ih hK hQ hSB hP hB hR hP4 hB4; omega) hP4 (fun _ _ => .inr rfl) hB4 h301 hNX hS hS2
    · rw [if_pos rfl]
      rw [e70] at h9
      exact out (fun h => h9 (k1_ h))
theorem x_150 [Inhabited gh_] (hSB : SB 151 5 6 (nU n) (D + 3) dq o) : SB 150 4 5 (nP n) (D + 4) dq o := by
  intro b F Mx Mq a sg ws c cm f fm cc cd K Qt hR hnp htl hc3 hS hK hQ
  refine t_150 fun V hV hW => b_150_0 (Tr_mono _) hV hW Mx ?_
  have hER := hR.2.2.1
  have h4 := ES_4 (κ := Mx 70) (o := o) (a := a) hER.1.1 hER.1.2.1
  refine hSB b F Mx Mq a sg ws c cm f fm cc cd _ _ hR hnp (Int.lt_of_lt_of_le htl (by decide)) (fun h => absurd h (by decide)) (fun h h9 => hS h (by rw [h4, h9]; rfl)) ?_ hQ
  intro s Mx1 Mq1 Ms a1 c1 y1 t1 bd1 l1 hP hs hB hS5 h101 hNX
  rw [hER.2.1]
  have hw : nU n t1 ≤ nP n t1 := by clear hK hQ hSB; unfold nU nP; split <;> omega
  rw [hS5] at h4
  have hB' : QB dq 5 b Mq Mq1 Ms a1 sg c1 cm f := ⟨hB.1, Red_le hB.2.1 (by decide), hB.2.2⟩
  have hcc : c1 = c := hNX.2 (by decide)
  rw [hcc] at hP hB'
  exact l_150 hSB hV hW hR htl hK hQ _ _ _ _ a1 s t1 bd1 _ _ (Nat.le_refl _) (EP_weak hP hw) (fun h1 h2 => .inl (hs h1 h2)) hB' (fun h h9 => hS h (by rw [h4]; exact h9)) h4
theorem x_149 [Inhabited gh_] (hSB : SB 150 4 5 (nP n) (D + 3) dq o) : SB 149 3 4 (nS n) (D + 4) dq o := by
  intro b F Mx Mq a sg ws c cm f fm cc cd K Qt hR hnp htl hc3 hS hK hQ
  refine t_149 fun V hV hW => b_149_0 (Tr_mono _) hV hW Mx ?_
  have hER := hR.2.2.1
  have h4 := ES_3 (κ := Mx 70) (o := o) (a := a) hER.1.1 hER.1.2.1
  refine hSB b F Mx Mq a sg ws c cm f fm cc cd _ _ hR hnp (Int.lt_of_lt_of_le htl (by decide)) (fun h => absurd h (by decide)) (fun h h9 => hS h (by rw [h4, h9]; rfl)) ?_ hQ
  intro s Mx1 Mq1 Ms a1 c1 y1 t1 bd1 l1 hP hs hB hS5 h101 hNX
  rw [hER.2.1]
  have hw : nP n t1 ≤ nS n t1 := by clear hK hQ hSB; unfold nP nS; split <;> omega
  rw [hS5] at h4
  have hB' : QB dq 4 b Mq Mq1 Ms a1 sg c1 cm f := ⟨hB.1, Red_le hB.2.1 (by decide), hB.2.2⟩
  have hcc : c1 = c := hNX.2 (by decide)
  rw [hcc] at hP hB'
  exact l_149 hSB hV hW hR htl hK hQ _ _ _ _ a1 s t1 bd1 _ _ (Nat.le_refl _) (EP_weak hP hw) (fun h1 h2 => .inl (hs h1 h2)) hB' ⟨fun h => by have := hNX.1 h; rw [hcc] at this; exact this, fun _ => rfl⟩ (fun h h9 => hS h (by rw [h4]; exact h9)) h4
theorem x_147 [Inhabited gh_] (hSB : SB 148 2 3 (nR n) (D + 3) dq o) : SB 147 1 2 (nC n) (D + 4) dq o := by
  intro b F Mx Mq a sg ws c cm f fm cc cd K Qt hR hnp htl hc3 hS hK hQ
  refine t_147 fun V hV hW => b_147_0 (Tr_mono _) hV hW Mx ?_
  have hER := hR.2.2.1
  have h4 := ES_1 (κ := Mx 70) (o := o) (a := a) hER.1.1 hER.1.2.1
  refine hSB b F Mx Mq a sg ws c cm f fm cc cd _ _ hR hnp (Int.lt_of_lt_of_le htl (by decide)) (fun _ => hc3 (by decide)) (fun h h9 => hS h (by rw [h4, h9]; rfl)) ?_ hQ
  intro s Mx1 Mq1 Ms a1 c1 y1 t1 bd1 l1 hP hs hB hS5 h101 hNX
  rw [hER.2.1]
  have hw : nR n t1 ≤ nC n t1 := by clear hK hQ hSB; unfold nR nC; split <;> omega
  rw [hS5] at h4
  have hB' : QB dq 2 b Mq Mq1 Ms a1 sg c1 cm f := ⟨hB.1, Red_le hB.2.1 (by decide), hB.2.2⟩
  have hc0 : c = 0 := hc3 (by decide)
  rw [hc0] at hNX
  exact l_147 hSB hV hW hR htl hK hQ _ _ _ _ a1 s t1 bd1 _ _ c1 (Nat.le_refl _) (EP_weak hP hw) (fun h1 h2 => .inl (hs h1 h2)) hB' h101 hNX (fun h h9 => hS h (by rw [h4]; exact h9)) h4
theorem x_146 [Inhabited gh_] (hSB : SB 147 1 2 (nC n) (D + 3) dq o) : SB 146 0 1 (nE n) (D + 4) dq o := by
  intro b F Mx Mq a sg ws c cm f fm cc cd K Qt hR hnp htl hc3 hS hK hQ
  refine t_146 fun V hV hW => b_146_0 (Tr_mono _) hV hW Mx ?_
  have hER := hR.2.2.1
  have h4 := ES_0 (κ := Mx 70) (o := o) (a := a) hER.1.1 hER.1.2.1
  refine hSB b F Mx Mq a sg ws c cm f fm cc cd _ _ hR hnp (Int.lt_of_lt_of_le htl (by decide)) (fun _ => hc3 (by decide)) (fun h h9 => hS h (by rw [h4, h9]; rfl)) ?_ hQ
  intro s Mx1 Mq1 Ms a1 c1 y1 t1 bd1 l1 hP hs hB hS5 h101 hNX
  rw [hER.2.1]
  have hw : nC n t1 ≤ nE n t1 := by clear hK hQ hSB; unfold nC nE; split <;> omega
  rw [hS5] at h4
  have hB' : QB dq 1 b Mq Mq1 Ms a1 sg c1 cm f := ⟨hB.1, Red_le hB.2.1 (by decide), hB.2.2⟩
  have hc0 : c = 0 := hc3 (by decide)
  rw [hc0] at hNX
  exact l_146 hSB hV hW hR htl hK hQ _ _ _ _ a1 s t1 bd1 _ _ c1 (Nat.le_refl _) (EP_weak hP hw) (fun h1 h2 => .inl (hs h1 h2)) hB' h101 hNX (fun h h9 => hS h (by rw [h4]; exact h9)) h4
end LO
end T77_er
section T78_er
/-! rel -/
theorem gb_ne2 [Inhabited gh_] {a : Int} {E : Int → Option Int} (h : (gS a).bind E ≠ none) : a < 1200 ∧ E (a + 1) ≠ none := by
  by_cases c : a < 1200
  · refine ⟨c, fun h2 => h ?_⟩
    unfold gS; rw [if_pos c]
    exact h2
  · exact absurd (by unfold gS; rw [if_neg c]; rfl) h
theorem gb_eq2 [Inhabited gh_] {a : Int} {E : Int → Option Int} (h : a < 1200) : (gS a).bind E = E (a + 1) := by
  unfold gS; rw [if_pos h]; rfl
section RE
variable {dq D n : Nat} {b F : Int} {Mx Mq : mm_} {a o : Int} {sg : List (Int × Int)} {ws : List (Int × Int × Int)} {c : Int} {cm : List Int} {f : Int} {fm : List (Int × Int)} {cc : Int} {cd : List Int} {K : Int → mm_ → Prop} {Qt : qt_} {V : vv_}
theorem sh3_ [Inhabited gh_] {k : Int} (h : lv_ k = 3) : 25 ≤ sh_ k ∧ sh_ k ≤ 30 ∧ rw_ (sh_ k) = 1 := by
  rcases k3_ h with h | h | h | h | h | h <;> (rw [h]; decide)
theorem x_148 [Inhabited gh_] (hSB : SB 149 3 4 (nS n) (D + 3) dq o) : SB 148 2 3 (nR n) (D + 4) dq o := by
  intro b F Mx Mq a sg ws c cm f fm cc cd K Qt hR hnp htl hc3 hS hK hQ
  have hc0 : c = 0 := hc3 (by decide)
  have hER0 := hR.2.2.1
  have h4 := ES_2 (κ := Mx 70) (o := o) (a := a) hER0.1.1 hER0.1.2.1
  refine t_148 fun V hV hW => b_148_0 (Tr_mono _) hV hW Mx ?_
  refine hSB b F Mx Mq a sg ws c cm f fm cc cd _ _ hR hnp (Int.lt_of_lt_of_le htl (by decide)) (fun h => absurd h (by decide)) (fun h h9 => hS h (by rw [h4, h9]; rfl)) ?_ hQ
  intro s1 Mx1 Mq1 Ms a1 c1 y1 t1 bd1 l1 hP hs hB hS5 h101 hNX
  have hcc : c1 = c := hNX.2 (by decide)
  rw [hcc] at hP hB hNX
  rw [hER0.2.1]
  rw [hS5] at h4
  change ES (Mx 70) 2 o a = (if lv_ (Mx 70 a1) = 3 then (gS a1).bind (ES (Mx 70) 3 o) else some a1) at h4
  have hER := hP.2.2.2.1
  have hiX := EP_iX hP
  have e70 := EP_70 hP
  have hfl := ER_fl hER
  have hlr := lv_r (k := Mx 70 a1)
  have c01 : c = 0 ∨ c = 1 := .inl hc0
  -- no sign
  have none9 : lv_ (Mx 70 a1) ≠ 3 → V 102 [rr 1, ii (Mx 1 7), ii a, ii s1, ii (-1), none, none, none] [] Mx1 := by
    intro h3
    rw [if_neg h3] at h4
    refine b_148_102 (Tr_mono _) hV hW _ _ _ _ Mx1 ?_
    rw [if_pos rfl]
    refine ri_i (hK s1 Mx1 Mq1 Ms a1 c y1 t1 bd1 l1 (EP_weak hP ?_) hs ⟨hB.1, Red_le hB.2.1 (by decide), hB.2.2⟩ h4 c01 ⟨fun h8 => ?_, fun h8 => absurd h8 (by decide)⟩)
    · clear hK hQ hSB hP hB; unfold nS nR; split <;> omega
    · have h6 := hNX.1
      clear hK hQ hSB hP hB hNX
      by_cases h7 : 4 ≤ lv_ (Mx 70 a1)
      · have := (h6 h7).2.1; omega
      · omega
  -- a sign
  have sign : ∀ op : Int, lv_ (Mx 70 a1) = 3 → op = xo9_ (sh_ (Mx 70 a1)) → V 102 [rr 1, ii (Mx 1 7), ii a, ii s1, ii op, none, none, none] [] Mx1 := by
    intro op h3 hop
    obtain ⟨r1, r2, hrw⟩ := sh3_ h3
    have hopr : op = sh_ (Mx 70 a1) - 6 := by
      rw [hop]; unfold xo9_
      rw [if_neg (by clear hK hQ hSB hP hB; omega), if_pos (by clear hK hQ hSB hP hB; omega)]
    have hopr2 : 19 ≤ op ∧ op ≤ 24 ∧ (op = 19 ↔ sh_ (Mx 70 a1) = 25) ∧ (op = 20 ↔ sh_ (Mx 70 a1) = 26) := by clear hK hQ hSB hP hB hop; omega
    have hlt : (if sh_ (Mx 70 a1) < 25 then (1 : Int) else 2) = 2 := if_neg (by clear hK hQ hSB hP hB hop; omega)
    have hlv0 : lv_ (Mx 70 a1) ≠ 0 := by rw [h3]; decide
    rw [if_pos h3] at h4
    -- the rest, by what is wanted of the right part
    have rest : ∀ (x5 w : Int), (if x5 = 0 then w = 0 else w = s1) → (x5 = 0 ∨ x5 = 1) → w = (if sh_ (Mx 70 a1) = 25 ∨ sh_ (Mx 70 a1) = 26 then s1 else rw_ (sh_ (Mx 70 a1)) - 1) → V 143 [rr 1, ii (Mx 1 7), ii a, ii s1, ii op, ii x5, none, none] [] (hM9 Mx1 (Mx 70 a1) s1 a) := by
      intro x5 w hxw hx5 hw
      refine b_148_143 (Tr_mono _) hV hW _ _ _ _ _ _ ?_
      have key := x_rt (m := 149) (nt2 := 3) (lev2 := 4) (nd := nS n) (n3 := nR n 2) (op := op) (w := w) (G := fun M4 => (if M4 1 7 ≤ Mx 1 7 then ri_ K [.inl 1] M4 else ri_ K [.inl (-1)] M4)) hSB hR hP hB c01 hlv0 (by rw [h3]; decide) (by rw [h3]; decide) (by rw [h3]; exact htl) (fun _ => hc0) (fun h => absurd h (by decide)) hw hop (fun h1 h2 => .inl (hs h1 h2)) (fun h => gb_ne2 (by have := hS h; rw [h4] at this; exact this)) (fun t2 ht => ?_) ?_ hQ
      · rcases hx5 with h | h
        · rw [if_pos h] at hxw
          rw [h]; rw [hxw] at key; exact key
        · rw [if_neg (by rw [h]; decide)] at hxw
          rw [h]; rw [hxw] at key; exact key
      · clear hK hQ hSB hP hB hop hR hER
        unfold nS nR
        rw [if_neg (show ¬ (2 : Int) = 1 by decide)]
        split
        · split <;> omega
        · split <;> omega
      · intro Mx4 Mq3 Ms4 a3 c3 bd4 y4 l4 h12 hP4 hB4 hS4 h13 h301 hNX4
        rw [h3] at hB4 hNX4
        rw [hlt] at hP4
        rw [gb_eq2 h12] at h4
        have hp := EP_ret hP4 (s := if Mx4 1 7 ≤ Mx 1 7 then 1 else -1) rfl
        have hk := hK _ _ _ _ _ _ _ _ _ _ hp.1 hp.2 hB4 (h4.trans hS4) h301 ⟨fun h8 => ?_, fun h8 => absurd h8 (by decide)⟩
        · show (if Mx4 1 7 ≤ Mx 1 7 then ri_ K [.inl 1] Mx4 else ri_ K [.inl (-1)] Mx4)
          split
          · rename_i h; rw [if_pos h] at hk; exact ri_i hk
          · rename_i h; rw [if_neg h] at hk; exact ri_i hk
        · have h6 := hNX4.1
          have h7 : c3 = 1 := hNX4.2 (by decide)
          have h9 := lv_r (k := Mx 70 a3)
          clear hK hQ hSB hP hB hNX hP4 hB4 hp hR
          by_cases h5 : 4 ≤ lv_ (Mx 70 a3)
          · have := (h6 h5).2.1; omega
          · exact ⟨by omega, by decide, h7⟩
    refine b_148_102 (Tr_mono _) hV hW _ _ _ _ Mx1 ?_
    have hne : op ≠ -1 := by have := hopr2.1; clear hK hQ hSB hP hB; omega
    rw [if_neg hne]
    by_cases g1 : op = 19
    · rw [if_pos g1, if_neg (by decide)]
      have any : sh_ (Mx 70 a1) = 25 ∨ sh_ (Mx 70 a1) = 26 := .inl (hopr2.2.2.1.mp g1)
      have := rest 1 s1 (by rw [if_neg (by decide)]) (.inr rfl) (by rw [if_pos any])
      rw [show hM9 Mx1 (Mx 70 a1) s1 a = Mx1 from by unfold hM9; rw [if_pos any]] at this
      exact this
    · rw [if_neg g1]
      by_cases g2 : op = 20
      · rw [if_pos g2, if_neg (by decide)]
        have any : sh_ (Mx 70 a1) = 25 ∨ sh_ (Mx 70 a1) = 26 := .inr (hopr2.2.2.2.mp g2)
        have := rest 1 s1 (by rw [if_neg (by decide)]) (.inr rfl) (by rw [if_pos any])
        rw [show hM9 Mx1 (Mx 70 a1) s1 a = Mx1 from by unfold hM9; rw [if_pos any]] at this
        exact this
      · rw [if_neg g2, if_pos rfl]
        have nany : ¬ (sh_ (Mx 70 a1) = 25 ∨ sh_ (Mx 70 a1) = 26) := fun h => h.elim (fun h => g1 (hopr2.2.2.1.mpr h)) (fun h => g2 (hopr2.2.2.2.mpr h))
        refine x_156 hER0.1.1 (Int.lt_of_le_of_lt hER0.1.2.1 (by decide)) hfl.1 hfl.2 ?_
        have := rest 0 0 (by rw [if_pos rfl]) (.inl rfl) (by rw [if_neg nany, hrw]; rfl)
        rw [hM9_e (w := 0) nany (by rw [hrw]; rfl)] at this
        exact this
  refine x_117 hiX (by decide) (by decide) (fun h9 => ?_) (fun h9 => ?_)
  · rw [if_neg (by decide)]; rw [e70] at h9; exact sign 19 (by rw [h9]; decide) (by rw [h9]; decide)
  rw [if_pos rfl]
  refine x_103 hiX (fun g9 => ?_) (fun g9 => ?_)
  · rw [if_neg (by decide)]; rw [e70] at g9; exact sign 20 (by rw [g9]; decide) (by rw [g9]; decide)
  rw [if_pos rfl]
  refine x_117 hiX (by decide) (by decide) (fun i9 => ?_) (fun i9 => ?_)
  · rw [if_neg (by decide)]; rw [e70] at i9; exact sign 21 (by rw [i9]; decide) (by rw [i9]; decide)
  rw [if_pos rfl]
  refine x_103 hiX (fun j9 => ?_) (fun j9 => ?_)
  · rw [if_neg (by decide)]; rw [e70] at j9; exact sign 22 (by rw [j9]; decide) (by rw [j9]; decide)
  rw [if_pos rfl]
  refine x_117 hiX (by decide) (by decide) (fun k9 => ?_) (fun k9 => ?_)
  · rw [if_neg (by decide)]; rw [e70] at k9; exact sign 23 (by rw [k9]; decide) (by rw [k9]; decide)
  rw [if_pos rfl]
  refine x_103 hiX (fun m9 => ?_) (fun m9 => ?_)
  · rw [if_neg (by decide)]; rw [e70] at m9; exact sign 24 (by rw [m9]; decide) (by rw [m9]; decide)
  rw [if_pos rfl]
  rw [e70] at h9 g9 i9 j9 k9 m9
  refine none9 (fun h => ?_)
  rcases k3_ h with h | h | h | h | h | h
  · exact h9 h
  · exact g9 h
  · exact i9 h
  · exact j9 h
  · exact k9 h
  · exact m9 h
end RE
end T78_er
section T79_er
/-! the first parts of e's: how X and Q stay in step -/
section SP
variable {dq D n d : Nat} {b F : Int} {Mx Mq Mx' Mq' M : mm_} {a o : Int} {sg : List (Int × Int)} {ws : List (Int × Int × Int)} {c : Int} {cm : List Int} {f : Int} {fm : List (Int × Int)} {cc : Int} {cd : List Int} {K : Int → mm_ → Prop} {Kv : mm_ → Prop} {Qr : qr_} {Qt : qt_} {V : vv_}
/-- Q's scalars are the same -/
theorem ER_Q [Inhabited gh_] (h : ER b F Mx Mq a o) (e12 : Mq' 6 12 = Mq 6 12) (e13 : Mq' 6 13 = Mq 6 13) (e14 : Mq' 6 14 = Mq 6 14) (e15 : Mq' 6 15 = Mq 6 15) (e16 : Mq' 6 16 = Mq 6 16) : ER b F Mx Mq' a o := by
  unfold ER NR at *
  rw [e12, e13, e14, e15, e16]; exact h
theorem ER_go [Inhabited gh_] (h : ER b F Mx Mq a o) (h12 : a < 1200) (hk : Mx 70 a ≠ 102 ∧ Mx 70 a ≠ 103) : ER b F (nX_ Mx) (nx_ Mq) (a + 1) o ∧ (nX_ Mx) 5 3 + 9 ≤ 9 * (a + 1) + 1000 ∧ (nX_ Mx) 1 7 + 8 + 8 * (1201 - (a + 1)) ≤ 1000001000 - (gg_ : Int) := by
  obtain ⟨e1, e2, e3, e4, e5, e6, e7, e8, e9, e10, e11, e12, e13, e14, e15⟩ := h
  refine ⟨⟨gd_c (nX_ne (by decide)) (gd_n e1 h12 hk.1 hk.2), by rw [nX_3, e2], by rw [nx_12, e3], by rw [nX_1 (by decide)]; exact e4, by rw [nx_6 (by decide)]; exact e5, e6, by rw [nX_1 (by decide)]; exact e7, by rw [nx_6 (by decide)]; exact e8, e9, fun hb => by rw [nx_6 (by decide)]; exact e10 hb, ?_, by rw [nX_1 (by decide)]; exact e12, by rw [nX_1 (by decide)]; omega, by rw [nX_ne (by decide)]; exact e14, by rw [nX_ne (by decide)]; omega⟩, by rw [nX_ne (by decide)]; omega, by rw [nX_1 (by decide)]; omega⟩
  unfold NR
  rw [nX_1 (by decide), nX_1 (by decide), nX_1 (by decide), nx_6 (by decide), nx_6 (by decide), nx_6 (by decide)]
  exact e11
theorem ER_pX [Inhabited gh_] {v : Int} (h : ER b F Mx Mq a o) (hs : Mx 5 3 + 1 ≤ 9 * a + 1000) : ER b F (pX_ Mx v) Mq a o := by
  obtain ⟨e1, e2, e3, e4, e5, e6, e7, e8, e9, e10, e11, e12, e13, e14, e15⟩ := h
  have h5 : pX_ Mx v 5 3 = Mx 5 3 ∨ pX_ Mx v 5 3 = Mx 5 3 + 1 := by
    unfold pX_; split
    · exact .inl rfl
    · exact .inr (by rw [up_at])
  refine ⟨gd_c (pX_r (by decide) (by decide)) e1, by rw [pX_1]; exact e2, e3, by rw [pX_1]; exact e4, e5, e6, by rw [pX_1]; exact e7, e8, e9, e10, ?_, by rw [pX_1]; exact e12, by rw [pX_1]; exact e13, by rcases h5 with h | h <;> omega, by rcases h5 with h | h <;> omega⟩
  unfold NR; rw [pX_1]; exact e11
theorem ER_nt [Inhabited gh_] {k t p : Int} (h : ER b F Mx Mq a o) (hb1 : b = 1) (hk : 1 ≤ k ∧ k ≤ 7) (hp : Mx 71 t = p) (hp0 : 0 ≤ p ∧ p ≤ 5000) (hf : Mx 1 7 + 1 + 8 * (1201 - a) ≤ 1000001000 - (gg_ : Int)) : ER b F (nt1_ Mx k t) (nt_ Mq k p) a o ∧ kk_ (nt_ Mq k p 6 13) (nt_ Mq k p 6 14) ≤ 8 * p + k := by
  obtain ⟨e1, e2, e3, e4, e5, e6, e7, e8, e9, e10, e11, e12, e13, e14, e15⟩ := h
  obtain ⟨n1, n2, n3, n4⟩ := e11
  have k1 := kk_nt1 (M := Mx) (k := k) (t := t) n1 hk.1 hk.2 (by rw [hp]; exact hp0.1) (by rw [hp]; exact hp0.2)
  have hfq : fqq_ (nt_ Mq k p) = np_ 1 (fqq_ Mq) k p := by rw [nt_fq, e8, hb1]
  have k2 := kk_np (q := fqq_ Mq) (k := k) (p := p) n2 hk.1 hk.2 hp0.1 hp0.2
  have f13 : nt_ Mq k p 6 13 = (np_ 1 (fqq_ Mq) k p).1 := congrArg Prod.fst hfq
  have f14 : nt_ Mq k p 6 14 = (np_ 1 (fqq_ Mq) k p).2 := congrArg Prod.snd hfq
  have hkq : kk_ (fqq_ Mq).1 (fqq_ Mq).2 = kk_ (Mq 6 13) (Mq 6 14) := rfl
  refine ⟨⟨gd_c (nt1_r (by decide)) e1, by rw [nt1_1 (by decide) (by decide) (by decide)]; exact e2, by rw [nt_6 (by decide) (by decide)]; exact e3, by rw [nt1_1 (by decide) (by decide) (by decide)]; exact e4, by rw [nt_6 (by decide) (by decide)]; exact e5, e6, by rw [nt1_1 (by decide) (by decide) (by decide)]; exact e7, by rw [nt_6 (by decide) (by decide)]; exact e8, e9, fun hb => absurd (hb.symm.trans hb1) (by decide), ⟨k1.2, by rw [f13, f14]; exact k2.2, ?_, n4.1, by
    rw [nt_6 (by decide) (by decide), f13, f14, nt1_1 (by decide) (by decide) (by decide)]
    exact n4.2.imp id fun z => Int.le_trans (np_le (q := fqq_ Mq) n2 hk.1 hk.2 hp0.1 hp0.2).1 z⟩, by rw [nt1_7]; omega, by rw [nt1_7]; omega, by rw [nt1_r (by decide)]; exact e14, by rw [nt1_r (by decide)]; exact e15⟩, ?_⟩
  · rw [k1.1, f13, f14, k2.1, n3, hkq, hp]; omega
  · rw [f13, f14, k2.1]; omega
theorem ER_o [Inhabited gh_] (h : ER b F Mx Mq a o) {o' : Int} (h0 : 0 ≤ o' ∧ o' ≤ 12) : ER b F (up_ Mx 1 6 o') (up_ Mq 6 15 o') a o' := by
  obtain ⟨e1, e2, e3, e4, e5, e6, e7, e8, e9, e10, e11, e12, e13, e14, e15⟩ := h
  refine ⟨gd_c (up_ne (by decide)) e1, by rw [up_off (by decide)]; exact e2, by rw [up_off (by decide)]; exact e3, up_at, up_at, h0, by rw [up_off (by decide)]; exact e7, by rw [up_off (by decide)]; exact e8, e9, fun hb => by rw [up_off (by decide)]; exact e10 hb, ?_, by rw [up_off (by decide)]; exact e12, by rw [up_off (by decide)]; exact e13, by rw [up_ne (by decide)]; exact e14, by rw [up_ne (by decide)]; exact e15⟩
  unfold NR
  rw [up_off (by decide), up_off (by decide), up_off (by decide), up_off (by decide), up_off (by decide), up_off (by decide)]
  exact e11
theorem oX_XF [Inhabited gh_] {v : Int} : XF M (up_ M 1 6 v) := ⟨Fr_up Fr_rf (by decide), fun i _ _ _ h _ => by rw [up_off h], fun i _ => by rw [up_ne (by decide)]⟩
theorem oq_QF [Inhabited gh_] {v : Int} : QF M (up_ M 6 15 v) := ⟨Fr_up Fr_rf (by decide), fun i _ _ _ h _ _ _ _ => by rw [up_off h]⟩
theorem nX_E [Inhabited gh_] (h : XE M cc cd) : XE (nX_ M) cc cd := XE_c (by rw [nX_ne (by decide)]) (nX_ne (by decide)) h
/-- X's two words -/
theorem pX_2 [Inhabited gh_] (h8 : M 1 8 = b) (h01 : b = 0 ∨ b = 1) (v w : Int) (hE : XE M cc cd) : XE (pX_ (pX_ M v) w) cc ((if b = 0 then [] else [w, v]) ++ cd) := by
  rcases h01 with h | h
  · rw [if_pos h, pX_0 (by rw [pX_1, h8]; exact h), pX_0 (by rw [h8]; exact h)]; exact hE
  · rw [if_neg (by rw [h]; decide)]
    exact pX_E (by rw [pX_1, h8, h]; decide) (pX_E (by rw [h8, h]; decide) hE)
theorem pX_1w [Inhabited gh_] (h8 : M 1 8 = b) (h01 : b = 0 ∨ b = 1) (v : Int) (hE : XE M cc cd) : XE (pX_ M v) cc ((if b = 0 then [] else [v]) ++ cd) := by
  rcases h01 with h | h
  · rw [if_pos h, pX_0 (by rw [h8]; exact h)]; exact hE
  · rw [if_neg (by rw [h]; decide)]
    exact pX_E (by rw [h8, h]; decide) hE
theorem ad_6 [Inhabited gh_] {s p bb i : Int} (h : i ≠ 116) : ad_ M s p bb 6 i = M 6 i := by unfold ad_ w3_; rw [up_off h, up_ne (by decide), up_ne (by decide), up_ne (by decide)]
theorem ad_QF [Inhabited gh_] {s p bb : Int} : QF M (ad_ M s p bb) := by
  unfold ad_ w3_
  exact ⟨Fr_up (Fr_up (Fr_up (Fr_up Fr_rf (by decide)) (by decide)) (by decide)) (by decide), fun i _ _ _ _ _ _ h _ => by rw [up_off h, up_ne (by decide), up_ne (by decide), up_ne (by decide)]⟩
/-- Q: an operand, with what then comes -/
theorem q_278 [Inhabited gh_] {s p bb : Int} (h0 : 0 ≤ M 6 116) (h1 : M 6 116 < 1202) (hb : bb = 0 ∨ bb = 1) (h : Tr_ wd0 pg0 d 279 [.inr (.inr 6)] (ad_ M s p bb) (rv_ Kv) Qt) : Tr_ wd0 pg0 (d + 1) 278 [.inr (.inr 6), .inl s, .inl p, .inl bb] M (rv_ Kv) Qt := t_278 fun V hV hW => b_278_0 (Tr_mono _) hV hW s p bb M ⟨⟨h0, h1⟩, ⟨h0, h1⟩, ⟨⟨h0, h1⟩, hb⟩, by
  rw [w32_id (by omega) (by omega)]
  exact Tr_m h (fun vs N hq => by obtain ⟨hv, hk⟩ := hq; exact ⟨hv, rfl, hk⟩) (fun _ _ q => q)⟩
/-- what a part of one token, or of two, leaves -/
theorem EP_atom [Inhabited gh_] {need a' t bd s : Int} {x : Int × Int} {y : List Int} (hT : Tks Mx Mq) (haa : a < a') (hX : XF Mx Mx') (hQ : QF Mq Mq') (hER : ER b F Mx' Mq' a' o) (hQE : QE Mq' sg ((t, Mx 71 a, bd) :: ws) (c :: cm) f (x :: fm)) (hbd : bd = 0 ∨ bd = 1) (hXE : XE Mx' cc (y ++ cd)) (hy0 : b = 0 → y = []) (hy1 : b = 1 → bd = 0 → y = en_1 Mq x) (hyl : (y.length : Int) ≤ 3)
    (hfl : Mx' 1 7 ≤ Mx 1 7 + 4) (hfl2 : Mx 1 7 ≤ Mx' 1 7) (h0 : b = 1 → bd = 0 → s = t - 1 ∧ 1 ≤ t ∧ t ≤ 3 ∧ Mx' 1 7 = Mx 1 7 ∧ fqq_ Mq' = fqq_ Mq ∧ ∀ st, ts_ Mq x st (t :: st)) (h1 : b = 1 → bd = 1 → s = -1 ∧ Mx 1 7 < Mx' 1 7 ∧ kk_ (Mq' 6 13) (Mq' 6 14) < 8 * Mx 71 a') (hneed : 1 ≤ need) :
    EP need b F Mx Mq Mx' Mq' a a' o sg ws c cm f fm cc cd y s t bd [x] ∧ (b = 1 → bd = 1 → s = -1) := by
  refine ⟨⟨haa, hX, hQ, hER, hQE, hbd, ?_, ⟨hXE, hy0, fun hb h => ?_, ?_⟩, ⟨?_, hfl2⟩, fun hb => ⟨fun h => ?_, fun h => ?_⟩, fun hb h st Dd hD => ?_⟩, fun hb h => (h1 hb h).1⟩
  · simp only [List.length_cons, List.length_nil]; push_cast; omega
  · show y = en_1 Mq x ++ []
    rw [List.append_nil]; exact hy1 hb h
  · omega
  · omega
  · have := h0 hb h; exact ⟨this.1, this.2.1, this.2.2.1, this.2.2.2.1, this.2.2.2.2.1⟩
  · have := h1 hb h; exact ⟨.inl this.1, this.2⟩
  · exact ⟨st, rfl, (h0 hb h).2.2.2.2.2 st, by simp only [List.length_cons]; push_cast; omega⟩
end SP
end T79_er

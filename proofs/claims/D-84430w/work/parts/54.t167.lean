section T167_xb
/-! states: frames; before a trans -/
def xbL : List Nat := [1, 5, 59, 62, 63, 64, 65, 66, 123, 128, 129, 133, 134, 135, 136, 137, 138, 139, 140, 141, 142]
def xbI : List Int := [3, 4, 5, 6, 7, 19, 21, 22, 23, 29, 34]
def qbL : List Nat := [6, 174, 175, 179, 180, 186, 187, 188, 189, 192, 193, 194, 195, 196, 197, 198, 199, 200, 201, 202, 203, 204, 205, 206, 207, 208, 209, 210, 211, 212, 213, 214, 215, 216, 217, 218, 219, 220, 221, 222, 223, 224, 225, 226, 227, 228, 229, 230, 231, 232, 233, 234]
def qbI : List Int := [12, 13, 14, 15, 62, 63, 75, 76, 90, 102, 103, 104, 107, 108, 109, 112, 116, 118]
def XSb (M M' : mm_) : Prop := Fr_ xbL M M' ∧ (∀ i : Int, i ∉ xbI → M' 1 i = M 1 i) ∧ (∀ i : Int, i ≠ 3 → i ≠ 4 → M' 5 i = M 5 i)
def QSb (M M' : mm_) : Prop := Fr_ qbL M M' ∧ ∀ i : Int, i ∉ qbI → M' 6 i = M 6 i
section XBS
variable {b F F' : Int} {Mx Mq Mx1 Mq1 M N M1 N1 M2 N2 : mm_} {a a1 p st mk mx : Int}
theorem XSb_rf [Inhabited gh_] : XSb M M := ⟨Fr_rf, fun _ _ => rfl, fun _ _ _ => rfl⟩
theorem QSb_rf [Inhabited gh_] : QSb M M := ⟨Fr_rf, fun _ _ => rfl⟩
theorem XSb_tr [Inhabited gh_] (h1 : XSb M M1) (h2 : XSb M1 M2) : XSb M M2 := ⟨Fr_tr h1.1 h2.1, fun i a => (h2.2.1 i a).trans (h1.2.1 i a), fun i a b => (h2.2.2 i a b).trans (h1.2.2 i a b)⟩
theorem QSb_tr [Inhabited gh_] (h1 : QSb M M1) (h2 : QSb M1 M2) : QSb M M2 := ⟨Fr_tr h1.1 h2.1, fun i a => (h2.2 i a).trans (h1.2 i a)⟩
theorem XA_XSb [Inhabited gh_] (h : XA M M1) : XSb M M1 := ⟨Fr_sub h.1 (by decide), fun i hi => h.2.1 i (fun e => hi (by revert e; unfold xaI xbI; simp only [List.mem_cons, List.not_mem_nil, or_false]; omega)), fun i h3 _ => h.2.2 i h3⟩
theorem QA_QSb [Inhabited gh_] (h : QA M M1) : QSb M M1 := ⟨Fr_sub h.1 (by decide), fun i hi => h.2 i (fun e => hi (by revert e; unfold qaI qbI; simp only [List.mem_cons, List.not_mem_nil, or_false]; omega))⟩
theorem XSb_r [Inhabited gh_] (h : XSb M M1) {r : Nat} (hr : r ∉ xbL) : M1 r = M r := h.1 r hr
theorem QSb_r [Inhabited gh_] (h : QSb M M1) {r : Nat} (hr : r ∉ qbL) : M1 r = M r := h.1 r hr
theorem Tks_b [Inhabited gh_] (hx : XSb Mx Mx1) (hq : QSb Mq Mq1) (h : Tks Mx Mq) : Tks Mx1 Mq1 := by
  unfold Tks gd_ lk9_ at *
  rw [XSb_r hx (r := 69) (by decide), XSb_r hx (r := 70) (by decide), XSb_r hx (r := 71) (by decide), XSb_r hx (r := 72) (by decide), XSb_r hx (r := 73) (by decide), QSb_r hq (r := 149) (by decide), QSb_r hq (r := 150) (by decide), QSb_r hq (r := 151) (by decide)]
  exact h
theorem VT_b [Inhabited gh_] (hx : XSb Mx Mx1) (hq : QSb Mq Mq1) (h : VT Mx Mq) : VT Mx1 Mq1 := by
  unfold VT nm9_ gd_ at *
  rw [hx.2.1 2 (by decide), hx.2.1 18 (by decide), hq.2 61 (by decide), XSb_r hx (r := 70) (by decide), XSb_r hx (r := 60) (by decide), XSb_r hx (r := 61) (by decide), XSb_r hx (r := 124) (by decide), XSb_r hx (r := 126) (by decide), XSb_r hx (r := 130) (by decide), XSb_r hx (r := 131) (by decide), XSb_r hx (r := 132) (by decide), QSb_r hq (r := 151) (by decide), QSb_r hq (r := 171) (by decide), QSb_r hq (r := 173) (by decide), QSb_r hq (r := 177) (by decide), QSb_r hq (r := 178) (by decide), QSb_r hq (r := 182) (by decide), QSb_r hq (r := 183) (by decide), QSb_r hq (r := 184) (by decide)]
  exact h
theorem tpl_b [Inhabited gh_] (hq : QSb Mq Mq1) {v : Int} : tpl Mq1 v = tpl Mq v := by
  unfold tpl
  rw [hq.2 19 (by decide), QSb_r hq (r := 154) (by decide)]
theorem GT_b [Inhabited gh_] (hx : XSb Mx Mx1) (hq : QSb Mq Mq1) (h : GT b F Mx Mq p) : GT b F Mx1 Mq1 p := by
  have et : tpl Mq1 = tpl Mq := funext fun v => tpl_b hq
  unfold GT SGT PRT RTT sgl9 tpl9 rtl9 nm9_ gd_ at *
  rw [et, hx.2.2 0 (by decide) (by decide), hx.2.2 1 (by decide) (by decide), hx.2.2 2 (by decide) (by decide), hq.2 17 (by decide), hq.2 18 (by decide), hq.2 19 (by decide), hq.2 61 (by decide), XSb_r hx (r := 70) (by decide), XSb_r hx (r := 56) (by decide), XSb_r hx (r := 57) (by decide), XSb_r hx (r := 58) (by decide), XSb_r hx (r := 112) (by decide), XSb_r hx (r := 113) (by decide), XSb_r hx (r := 114) (by decide), XSb_r hx (r := 119) (by decide), XSb_r hx (r := 122) (by decide), XSb_r hx (r := 130) (by decide),
    QSb_r hq (r := 151) (by decide), QSb_r hq (r := 152) (by decide), QSb_r hq (r := 153) (by decide), QSb_r hq (r := 154) (by decide), QSb_r hq (r := 156) (by decide), QSb_r hq (r := 157) (by decide), QSb_r hq (r := 158) (by decide), QSb_r hq (r := 164) (by decide), QSb_r hq (r := 170) (by decide), QSb_r hq (r := 182) (by decide), QSb_r hq (r := 183) (by decide)]
  exact h
theorem stt9_b [Inhabited gh_] (hx : XSb Mx M1) (hq : QSb Mq N1) (h59 : M1 59 = Mx 59) (h123 : M1 123 = Mx 123) (h174 : N1 174 = Mq 174) (h179 : N1 179 = Mq 179) (h : stt9 Mx Mq) : stt9 M1 N1 := by
  unfold stt9 nm9_ gd_ at *
  rw [hx.2.1 18 (by decide), h123, h59, XSb_r hx (r := 70) (by decide), h174, h179, QSb_r hq (r := 151) (by decide)]
  exact h
theorem LBT_b [Inhabited gh_] (h : LBT b F Mx Mq a) (hx : XSb Mx M1) (hq : QSb Mq N1) (h62 : M1 62 = Mx 62) (h128 : M1 128 = Mx 128) (h175 : N1 175 = Mq 175) (h180 : N1 180 = Mq 180) (h187 : N1 187 = Mq 187) : LBT b F M1 N1 a := by
  unfold LBT LBG lbl9 nm9_ gd_ at *
  rw [hx.2.1 18 (by decide), h62, h128, h175, h180, h187, XSb_r hx (r := 70) (by decide), XSb_r hx (r := 71) (by decide), QSb_r hq (r := 151) (by decide)]
  exact h
/-- between two transes -/
def TS [Inhabited gh_] (b F : Int) (Mx Mq : mm_) (a : Int) : Prop := TA b F Mx Mq a 0 ∧ GT b F Mx Mq (Mx 71 a) ∧ LBT b F Mx Mq a ∧ stt9 Mx Mq ∧ ((0 ≤ Mx 1 29 ∧ 2 * Mx 1 29 + 2 ≤ a) ∧ (0 ≤ Mq 6 76 ∧ 2 * Mq 6 76 + 2 ≤ a)) ∧ Mx 1 7 + 8 * (1201 - a) ≤ 1000000000 - (gg_ : Int) ∧ (0 ≤ Mq 6 90 ∧ Mq 6 90 ≤ a) ∧ ((b = 1 → 0 ≤ Mx 1 21 ∧ Mx 1 21 < 1048576) ∧ (b = 1 → 0 ≤ Mx 1 23 ∧ Mx 1 23 < 64)) ∧ (0 ≤ Mx 1 19 ∧ Mx 5 3 ≤ 9 * a + 400)
def sX_ (M : mm_) (mx : Int) : mm_ := up_ (up_ (up_ (up_ (up_ M 66 (M 1 29) mx) 63 (M 1 29) 0) 64 (M 1 29) 0) 65 (M 1 29) 0) 1 29 (M 1 29 + 1)
theorem sX_1 [Inhabited gh_] {i : Int} (h : i ≠ 29) : sX_ M mx 1 i = M 1 i := by unfold sX_; rw [up_off h, up_ne (by decide), up_ne (by decide), up_ne (by decide), up_ne (by decide)]
theorem sX_29 [Inhabited gh_] : sX_ M mx 1 29 = M 1 29 + 1 := by unfold sX_; rw [up_at]
theorem sX_r [Inhabited gh_] {r : Nat} (h1 : r ≠ 1) (h2 : r ≠ 63) (h3 : r ≠ 64) (h4 : r ≠ 65) (h5 : r ≠ 66) : sX_ M mx r = M r := by unfold sX_; rw [up_ne h1, up_ne h4, up_ne h3, up_ne h2, up_ne h5]
theorem sX_k [Inhabited gh_] : sX_ M mx 66 (M 1 29) = mx ∧ sX_ M mx 63 (M 1 29) = 0 ∧ sX_ M mx 64 (M 1 29) = 0 ∧ sX_ M mx 65 (M 1 29) = 0 := by
  unfold sX_
  refine ⟨?_, ?_, ?_, ?_⟩
  · rw [up_ne (by decide), up_ne (by decide), up_ne (by decide), up_ne (by decide), up_at]
  · rw [up_ne (by decide), up_ne (by decide), up_ne (by decide), up_at]
  · rw [up_ne (by decide), up_ne (by decide), up_at]
  · rw [up_ne (by decide), up_at]
theorem sX_XSb [Inhabited gh_] : XSb M (sX_ M mx) := ⟨fun r hr => sX_r (fun e => hr (by rw [e]; decide)) (fun e => hr (by rw [e]; decide)) (fun e => hr (by rw [e]; decide)) (fun e => hr (by rw [e]; decide)) (fun e => hr (by rw [e]; decide)), fun i hi => sX_1 (nm_i hi (by decide)), fun i _ _ => by rw [sX_r (by decide) (by decide) (by decide) (by decide) (by decide)]⟩
theorem tM_k [Inhabited gh_] : tM_ N st mk 215 (N 6 76) = st ∧ tM_ N st mk 213 (N 6 76) = 0 ∧ tM_ N st mk 214 (N 6 76) = 0 ∧ tM_ N st mk 212 (N 6 76) = mk ∧ tM_ N st mk 211 (N 6 76) = N 6 61 := by
  unfold tM_
  refine ⟨?_, ?_, ?_, ?_, ?_⟩
  · rw [up_ne (by decide), up_ne (by decide), up_ne (by decide), up_ne (by decide), up_at]
  · rw [up_ne (by decide), up_ne (by decide), up_ne (by decide), up_at]
  · rw [up_ne (by decide), up_ne (by decide), up_at]
  · rw [up_ne (by decide), up_ne (by decide), up_ne (by decide), up_ne (by decide), up_ne (by decide), up_at]
  · rw [up_ne (by decide), up_ne (by decide), up_ne (by decide), up_ne (by decide), up_ne (by decide), up_ne (by decide), up_at]
theorem tM_QSb [Inhabited gh_] : QSb N (tM_ N st mk) := ⟨fun r hr => tM_r (fun e => hr (by rw [e]; decide)) (fun e => hr (by rw [e]; decide)) (fun e => hr (by rw [e]; decide)) (fun e => hr (by rw [e]; decide)) (fun e => hr (by rw [e]; decide)) (fun e => hr (by rw [e]; decide)), fun i hi => tM_6 (nm_i hi (by decide)) (nm_i hi (by decide)) (nm_i hi (by decide))⟩
theorem TS_PS [Inhabited gh_] (h : TS b F Mx Mq a) (hm : b = 1 → (mx = -1 ↔ st ≠ 0)) : PS b F (sX_ Mx mx) (tM_ Mq st mk) a 0 (Mq 6 76) := by
  obtain ⟨⟨t1, t2, t3, t4, t5, t6⟩, g, l, s, ⟨u1, u2⟩, w, r, ⟨k1, k2⟩, n1, n2⟩ := h
  have ha := ER_a t3
  have x := sX_XSb (M := Mx) (mx := mx)
  have q := tM_QSb (N := Mq) (st := st) (mk := mk)
  have k := sX_k (M := Mx) (mx := mx)
  have kq := tM_k (N := Mq) (st := st) (mk := mk)
  have e5 : sX_ Mx mx 5 = Mx 5 := sX_r (by decide) (by decide) (by decide) (by decide) (by decide)
  have e71 : sX_ Mx mx 71 = Mx 71 := sX_r (by decide) (by decide) (by decide) (by decide) (by decide)
  have i29 : sX_ Mx mx 1 29 - 1 = Mx 1 29 := by rw [sX_29]; omega
  have hE : ER b F (sX_ Mx mx) (tM_ Mq st mk) a 0 := ER_X2 (ER_Q t3 (tM_6 (by decide) (by decide) (by decide)) (tM_6 (by decide) (by decide) (by decide)) (tM_6 (by decide) (by decide) (by decide)) (tM_6 (by decide) (by decide) (by decide)) (tM_6 (by decide) (by decide) (by decide))) (XSb_r x (by decide)) (fun i h1 h2 => sX_1 (by omega)) (by rw [e5]) (sX_1 (by omega))
  refine ⟨⟨Tks_b x q t1, VT_b x q t2, hE, by rw [tM_6 (by decide) (by decide) (by decide)]; exact t4, by rw [tM_6 (by decide) (by decide) (by decide)]; exact t5, by rw [e5]; exact t6⟩, by rw [e71]; exact GT_b x q g, LBT_b l x q (sX_r (by decide) (by decide) (by decide) (by decide) (by decide)) (sX_r (by decide) (by decide) (by decide) (by decide) (by decide)) (tM_r (by decide) (by decide) (by decide) (by decide) (by decide) (by decide)) (tM_r (by decide) (by decide) (by decide) (by decide) (by decide) (by decide)) (tM_r (by decide) (by decide) (by decide) (by decide) (by decide) (by decide)), stt9_b x q (sX_r (by decide) (by decide) (by decide) (by decide) (by decide)) (sX_r (by decide) (by decide) (by decide) (by decide) (by decide)) (tM_r (by decide) (by decide) (by decide) (by decide) (by decide) (by decide)) (tM_r (by decide) (by decide) (by decide) (by decide) (by decide) (by decide)) s, ⟨by rw [sX_29]; omega, by omega, fun hb => ?_⟩, ?_, by rw [tM_6 (by decide) (by decide) (by decide)]; exact r, by rw [tM_102]; omega, ⟨fun hb => ?_, ?_, ?_⟩, ?_, by rw [e5]; exact n2⟩
  · rw [i29, k.1, kq.1]; exact hm hb
  · rw [sX_1 (by decide)]; exact w
  · rw [i29, k.2.1, k.2.2.1, k.2.2.2, kq.2.1, kq.2.2.1]
    have w0 := wM_0 (n := sX_ Mx mx 123 (sX_ Mx mx 1 18))
    omega
  · rw [sX_1 (by decide)]; exact k1
  · rw [sX_1 (by decide)]; exact k2
  · rw [sX_1 (by decide)]; exact n1
theorem x_131 [Inhabited gh_] {d : Nat} {Kv : mm_ → Prop} {Qt : qt_} (h0 : 0 ≤ M 1 29 ∧ M 1 29 < 600) (h : Kv (sX_ M mx)) : Tr_ wd0 pg0 (d + 1) 131 [.inr (.inr 1), .inl mx] M (rv_ Kv) Qt := t_131 fun V hV hW => b_131_0 (Tr_mono _) hV hW _ _ ⟨h0, h0, h0, h0, by rw [w32_id (by omega) (by omega)]; exact rv_i h⟩
end XBS
end T167_xb
section T168_tn
/-! a trans, from between two transes to the next -/
section TN
variable {d dq : Nat} {b F F' : Int} {Mx Mq M N : mm_} {a a' st mk mx kk : Int} {Kv : mm_ → Prop} {Qt : qt_}
theorem PS_TS [Inhabited gh_] (h29 : 2 * Mx 1 29 + 4 ≤ a) (h76 : 2 * Mq 6 76 + 4 ≤ a) (h0 : 0 ≤ Mx 1 29 ∧ 0 ≤ Mq 6 76) (hfl : Mx 1 7 + 8 * (1201 - a) + 1 ≤ 1000000000 - (gg_ : Int))
    (hp : PS b F (sX_ Mx mx) (tM_ Mq st mk) a 0 (Mq 6 76)) (hP : PRC b F F' (sX_ Mx mx) (tM_ Mq st mk) M N a a' 0 0 (Mq 6 76)) (hk : kk = 0 ∨ (3 ≤ kk ∧ kk ≤ 6)) (hE : ER b F' (Xn_ M b kk a') (Qn_ N b kk (M 71 a')) a' 0) (h7 : Xn_ M b kk a' 1 7 ≤ M 1 7 + 1) : TS b F' (Xn_ M b kk a') (Qn_ N b kk (M 71 a')) a' := by
  have p1 := PS_tr hp hP (Int.le_refl _)
  obtain ⟨⟨t1, t2, t3, t4, t5, t6⟩, g, l, s, ⟨u1, u2, u3⟩, w, r, dd, msk, n1, n2⟩ := p1
  have xf : XF M (Xn_ M b kk a') := Xn_XF
  have xa := XF_XA xf
  have qn : QN N (Qn_ N b kk (M 71 a')) := QN_Qn
  have qa : QA N (Qn_ N b kk (M 71 a')) := QF_QA (QN_QF qn)
  have e29 : M 1 29 = Mx 1 29 + 1 := by rw [hP.2.2.1.1.2.1 29 (by decide), sX_29]
  have e76 : N 6 76 = Mq 6 76 + 1 := by rw [hP.2.2.1.2.2 76 (by decide)]; unfold tM_; rw [up_off (by decide), up_off (by decide), up_ne (by decide), up_ne (by decide), up_ne (by decide), up_ne (by decide), up_ne (by decide), up_at]
  have y1 : ∀ i : Int, i ≠ 3 → i ≠ 4 → i ≠ 5 → i ≠ 6 → i ≠ 7 → Xn_ M b kk a' 1 i = M 1 i := xf.2.1
  have q6 : ∀ i : Int, i ≠ 12 → i ≠ 13 → i ≠ 14 → Qn_ N b kk (M 71 a') 6 i = N 6 i := fun i h1 h2 h3 => qn.2 i h1 h2 h3
  have qr : ∀ r : Nat, r ≠ 6 → Qn_ N b kk (M 71 a') r = N r := fun r hr => qn.1 r hr
  have e5 : Xn_ M b kk a' 5 = M 5 := Xn_r (by decide)
  have e71 : Xn_ M b kk a' 71 = M 71 := Xn_r (by decide)
  have pb := hP.2.2.2.2.1
  obtain ⟨b1, b2, b3, b4, b5, b6⟩ := pb
  rw [sX_1 (by decide)] at b6
  refine ⟨⟨Tks_a xa qa t1, VT_a xa qa t2, hE, by rw [q6 75 (by decide) (by decide) (by decide)]; exact t4, by rw [q6 104 (by decide) (by decide) (by decide)]; exact t5, by rw [e5]; exact t6⟩, by rw [e71]; exact GT_a xa qa g, LBT_c l xa qa (Xn_r (by decide)) (Xn_r (by decide)) (qr _ (by decide)) (qr _ (by decide)) (qr _ (by decide)) (Int.le_refl _), stt9_a xa qa s, ⟨?_, ?_⟩, by omega, by rw [q6 90 (by decide) (by decide) (by decide)]; exact r, ⟨by rw [y1 21 (by decide) (by decide) (by decide) (by decide) (by decide)]; exact msk.2.1, by rw [y1 23 (by decide) (by decide) (by decide) (by decide) (by decide)]; exact msk.2.2⟩, by rw [y1 19 (by decide) (by decide) (by decide) (by decide) (by decide)]; exact n1, by rw [e5]; exact n2⟩
  · rw [y1 29 (by decide) (by decide) (by decide) (by decide) (by decide), e29]; omega
  · rw [q6 76 (by decide) (by decide) (by decide), e76]; omega
/-- X's stands and trans, Q's trans -/
theorem y_trn [Inhabited gh_] (h : TS b F Mx Mq a) (h29 : 2 * Mx 1 29 + 4 ≤ a) (h76 : 2 * Mq 6 76 + 4 ≤ a) (hfl : Mx 1 7 + 8 * (1201 - a) + 1 ≤ 1000000000 - (gg_ : Int)) (hm : b = 1 → (mx = -1 ↔ st ≠ 0)) (hst : st = 0 ∨ st = 1)
    (hS : b = 1 → PTj (Mx 70) (LMT Mx) 12 (a, lc_ b Mx) ≠ none)
    (hK : ∀ F' M' N' a' v kk, TS b F' (Xn_ M' b kk a') (Qn_ N' b kk (M' 71 a')) a' → PRC b F F' (sX_ Mx mx) (tM_ Mq st mk) M' N' a a' 0 0 (Mq 6 76) → SEM b (sX_ Mx mx) (tM_ Mq st mk) M' N' v → (v = 0 ∨ v = 1) → kk = (if v = 0 then 6 else 0) → (b = 1 → Qn_ N' b kk (M' 71 a') 6 13 = 0 → kk = 0 ∧ N' 6 13 = 0) → (∀ lm, LOK b lm Mx M' → PTj (Mx 70) lm 12 (a, lc_ b Mx) = some (a', lc_ b M'))
      → (∀ (Kv : mm_ → Prop) (Qtq : qt_), Kv (Qn_ N' b kk (M' 71 a')) → Tr_ wd0 pg0 (dq + 16) 260 [.inr (.inr 6), .inl st, .inl mk] Mq (rv_ Kv) Qtq) → Kv (Xn_ M' b kk a'))
    (hQ : b = 0 → ∀ Mx', XSb Mx Mx' → (∀ (Kv : mm_ → Prop) (Qtq : qt_), (∀ M', sp_ M' → in9_ M' → M' 6 13 = Mx' 1 4 → P14 Mx' M' → QSb Mq M' → Kv M') → Tr_ wd0 pg0 (dq + 16) 260 [.inr (.inr 6), .inl st, .inl mk] Mq (rv_ Kv) Qtq) → Qt 8 Mx') :
    Tr_ wd0 pg0 (d + 1) 131 [.inr (.inr 1), .inl mx] Mx (rv_ fun M1 => Tr_ wd0 pg0 128 132 [.inr (.inr 1)] M1 (rv_ Kv) Qt) Qt := by
  have hp := TS_PS (mk := mk) h hm
  obtain ⟨_, _, _, _, ⟨u1, u2⟩, _⟩ := h
  have ha := ER_a (PS_E hp)
  have lk := LKP_X (b := b) (M1 := sX_ Mx mx) (Mx := Mx) (sX_r (by decide) (by decide) (by decide) (by decide) (by decide)) (sX_r (by decide) (by decide) (by decide) (by decide) (by decide)) (sX_1 (by decide)) (sX_1 (by decide))
  have e70 : sX_ Mx mx 70 = Mx 70 := sX_r (by decide) (by decide) (by decide) (by decide) (by decide)
  refine x_131 (by omega) ?_
  refine y_132 (dq := dq) hp hst (fun hb => ?_) (fun F' M' N' a' v kk P S hv hkk hE E3 hsy hq => ?_) (fun hb Mx' hx hq => ?_)
  · rw [e70, lk.2, lk.1.2.2.2 hb]; exact hS hb
  · have hE1 := P.2.1
    have p1 := PS_tr hp P (Int.le_refl _)
    have hpa := tk_p p1.1.1 hE1.1
    have hkc : kk = 0 ∨ (3 ≤ kk ∧ kk ≤ 6) := by rw [hkk]; split <;> omega
    have w := p1.2.2.2.2.2.1
    have E2 := (ER_m (k := kk) (tk := a') hE1 hkc hpa (by omega)).2.1
    refine hK F' M' N' a' v kk (PS_TS h29 h76 ⟨u1.1, u2.1⟩ hfl hp P hkc hE E2.2) P S hv hkk E3 (fun lm hlm => ?_) hq
    have l2 := (LOK_s lk.1 (LKP_P P) hlm).2
    have e := hsy lm l2
    rw [e70, lk.2] at e
    exact e
  · refine hQ hb Mx' (XSb_tr sX_XSb (XA_XSb hx)) (fun Kv Qtq hk => hq _ _ fun M' hsq => hk M' hsq.1 hsq.2.1 hsq.2.2.1 hsq.2.2.2.1 (QSb_tr tM_QSb (QA_QSb hsq.2.2.2.2)))
end TN
end T168_tn
section T169_st
/-! states: rows of stims -/
def stX_ (M : mm_) (w s : Int) : mm_ := up_ (up_ (up_ (up_ (up_ (up_ (up_ (up_ M 5 4 (M 5 4 + 1)) 133 (M 5 4) w) 134 (M 5 4) (M 1 18)) 135 (M 5 4) (M 1 34)) 136 (M 5 4) s) 138 (M 5 4) 0) 139 (M 5 4) (-1)) 140 (M 5 4) 0
def stQ_ (N : mm_) (w mk : Int) : mm_ := up_ (up_ (up_ (up_ (up_ (up_ (up_ (up_ (up_ N 192 (N 6 62) (N 6 61)) 193 (N 6 62) w) 194 (N 6 62) mk) 195 (N 6 62) 0) 196 (N 6 62) (-1)) 197 (N 6 62) (N 6 75)) 198 (N 6 62) (N 6 63)) 199 (N 6 62) (N 6 63)) 6 62 (N 6 62 + 1)
def stxL : List Nat := [133, 134, 135, 136, 138, 139, 140]
def stqL : List Nat := [192, 193, 194, 195, 196, 197, 198, 199]
section ST
variable {d : Nat} {M N : mm_} {w s mk : Int} {K : Int → mm_ → Prop} {Qt : qt_}
theorem x_171 [Inhabited gh_] (h2 : M 1 2 = 5) (h4 : 0 ≤ M 5 4 ∧ M 5 4 < 600) (h : K (M 5 4) (stX_ M w s)) : Tr_ wd0 pg0 (d + 1) 171 [.inr (.inr 1), .inl w, .inl s] M (ri_ K) Qt := t_171 fun V hV hW => b_171_0 (Tr_mono _) hV hW _ _ _ ⟨h2, h2, h2, h4, h2, h4, h2, h4, h2, h4, h2, h4, h2, h4, h2, h4, by rw [w32_id (by omega) (by omega)]; exact ri_i h⟩
theorem q_307g [Inhabited gh_] (hg : go_ N) (h62 : 0 ≤ N 6 62 ∧ N 6 62 < 1300) (h : K (N 6 62) (stQ_ N w mk)) : Tr_ wd0 pg0 (d + 2) 307 [.inr (.inr 6), .inl w, .inl mk] N (ri_ K) Qt := t_307 fun V hV hW => b_307_0 (Tr_mono _) hV hW _ _ _ (q_227g hg (by
  rw [if_pos rfl, w32_id (by omega) (by omega)]
  exact ⟨h62, h62, h62, h62, h62, h62, h62, h62, ri_i h⟩))
theorem q_307s [Inhabited gh_] (hs : sp_ N) (h : K (N 6 62) N) : Tr_ wd0 pg0 (d + 2) 307 [.inr (.inr 6), .inl w, .inl mk] N (ri_ K) Qt := t_307 fun V hV hW => b_307_0 (Tr_mono _) hV hW _ _ _ (q_227s hs (by
  rw [if_neg (by decide)]
  exact ri_i h))
theorem stX_r [Inhabited gh_] {r : Nat} (h5 : r ≠ 5) (h : r ∉ stxL) : stX_ M w s r = M r := by
  unfold stxL at h
  simp only [List.mem_cons, List.not_mem_nil, or_false, not_or] at h
  unfold stX_
  rw [up_ne h.2.2.2.2.2.2, up_ne h.2.2.2.2.2.1, up_ne h.2.2.2.2.1, up_ne h.2.2.2.1, up_ne h.2.2.1, up_ne h.2.1, up_ne h.1, up_ne h5]
theorem stX_5 [Inhabited gh_] {i : Int} (h : i ≠ 4) : stX_ M w s 5 i = M 5 i := by
  unfold stX_
  rw [up_ne (by decide), up_ne (by decide), up_ne (by decide), up_ne (by decide), up_ne (by decide), up_ne (by decide), up_ne (by decide), up_off h]
theorem stX_54 [Inhabited gh_] : stX_ M w s 5 4 = M 5 4 + 1 := by
  unfold stX_
  rw [up_ne (by decide), up_ne (by decide), up_ne (by decide), up_ne (by decide), up_ne (by decide), up_ne (by decide), up_ne (by decide), up_at]
theorem stX_o [Inhabited gh_] {r : Nat} {i : Int} (hr : r ∈ stxL) (h : i ≠ M 5 4) : stX_ M w s r i = M r i := by
  have h5 : r ≠ 5 := fun e => absurd hr (by rw [e]; decide)
  unfold stX_
  rw [up_of2 h, up_of2 h, up_of2 h, up_of2 h, up_of2 h, up_of2 h, up_of2 h, up_ne h5]
theorem stX_k [Inhabited gh_] : stX_ M w s 133 (M 5 4) = w ∧ stX_ M w s 134 (M 5 4) = M 1 18 ∧ stX_ M w s 135 (M 5 4) = M 1 34 ∧ stX_ M w s 136 (M 5 4) = s ∧ stX_ M w s 138 (M 5 4) = 0 ∧ stX_ M w s 139 (M 5 4) = -1 ∧ stX_ M w s 140 (M 5 4) = 0 := by
  unfold stX_
  refine ⟨?_, ?_, ?_, ?_, ?_, ?_, ?_⟩
  · rw [up_ne (by decide), up_ne (by decide), up_ne (by decide), up_ne (by decide), up_ne (by decide), up_ne (by decide), up_at]
  · rw [up_ne (by decide), up_ne (by decide), up_ne (by decide), up_ne (by decide), up_ne (by decide), up_at]
  · rw [up_ne (by decide), up_ne (by decide), up_ne (by decide), up_ne (by decide), up_at]
  · rw [up_ne (by decide), up_ne (by decide), up_ne (by decide), up_at]
  · rw [up_ne (by decide), up_ne (by decide), up_at]
  · rw [up_ne (by decide), up_at]
  · rw [up_at]
theorem stX_XSb [Inhabited gh_] : XSb M (stX_ M w s) := ⟨fun r hr => stX_r (fun e => hr (by rw [e]; decide)) (fun e => hr (by revert e; unfold stxL xbL; simp only [List.mem_cons, List.not_mem_nil, or_false]; omega)), fun i _ => by rw [stX_r (by decide) (by decide)], fun i _ h => stX_5 h⟩
theorem stQ_r [Inhabited gh_] {r : Nat} (h6 : r ≠ 6) (h : r ∉ stqL) : stQ_ N w mk r = N r := by
  unfold stqL at h
  simp only [List.mem_cons, List.not_mem_nil, or_false, not_or] at h
  unfold stQ_
  rw [up_ne h6, up_ne h.2.2.2.2.2.2.2, up_ne h.2.2.2.2.2.2.1, up_ne h.2.2.2.2.2.1, up_ne h.2.2.2.2.1, up_ne h.2.2.2.1, up_ne h.2.2.1, up_ne h.2.1, up_ne h.1]
theorem stQ_6 [Inhabited gh_] {i : Int} (h : i ≠ 62) : stQ_ N w mk 6 i = N 6 i := by
  unfold stQ_
  rw [up_off h, up_ne (by decide), up_ne (by decide), up_ne (by decide), up_ne (by decide), up_ne (by decide), up_ne (by decide), up_ne (by decide), up_ne (by decide)]
theorem stQ_62 [Inhabited gh_] : stQ_ N w mk 6 62 = N 6 62 + 1 := by unfold stQ_; rw [up_at]
theorem stQ_o [Inhabited gh_] {r : Nat} {i : Int} (hr : r ∈ stqL) (h : i ≠ N 6 62) : stQ_ N w mk r i = N r i := by
  have h6 : r ≠ 6 := fun e => absurd hr (by rw [e]; decide)
  unfold stQ_
  rw [up_ne h6, up_of2 h, up_of2 h, up_of2 h, up_of2 h, up_of2 h, up_of2 h, up_of2 h, up_of2 h]
theorem stQ_k [Inhabited gh_] : stQ_ N w mk 192 (N 6 62) = N 6 61 ∧ stQ_ N w mk 193 (N 6 62) = w ∧ stQ_ N w mk 194 (N 6 62) = mk ∧ stQ_ N w mk 195 (N 6 62) = 0 ∧ stQ_ N w mk 196 (N 6 62) = -1 ∧ stQ_ N w mk 197 (N 6 62) = N 6 75 ∧ stQ_ N w mk 198 (N 6 62) = N 6 63 ∧ stQ_ N w mk 199 (N 6 62) = N 6 63 := by
  unfold stQ_
  refine ⟨?_, ?_, ?_, ?_, ?_, ?_, ?_, ?_⟩
  · rw [up_ne (by decide), up_ne (by decide), up_ne (by decide), up_ne (by decide), up_ne (by decide), up_ne (by decide), up_ne (by decide), up_ne (by decide), up_at]
  · rw [up_ne (by decide), up_ne (by decide), up_ne (by decide), up_ne (by decide), up_ne (by decide), up_ne (by decide), up_ne (by decide), up_at]
  · rw [up_ne (by decide), up_ne (by decide), up_ne (by decide), up_ne (by decide), up_ne (by decide), up_ne (by decide), up_at]
  · rw [up_ne (by decide), up_ne (by decide), up_ne (by decide), up_ne (by decide), up_ne (by decide), up_at]
  · rw [up_ne (by decide), up_ne (by decide), up_ne (by decide), up_ne (by decide), up_at]
  · rw [up_ne (by decide), up_ne (by decide), up_ne (by decide), up_at]
  · rw [up_ne (by decide), up_ne (by decide), up_at]
  · rw [up_ne (by decide), up_at]
theorem stQ_QSb [Inhabited gh_] : QSb N (stQ_ N w mk) := ⟨fun r hr => stQ_r (fun e => hr (by rw [e]; decide)) (fun e => hr (by revert e; unfold stqL qbL; simp only [List.mem_cons, List.not_mem_nil, or_false]; omega)), fun i hi => stQ_6 (nm_i hi (by decide))⟩
end ST
end T169_st
section T170_ag
/-! states: whether a signal stands twice -/
def uoR (M : mm_) (s k : Int) : Prop := M 134 k = M 1 18 ∧ M 133 k < 2 ∧ M 136 k = s ∧ an_ (M 135 k) (M 1 34) ≠ 0
def uo_ (M : mm_) (s : Int) : Prop := ∃ k, (0 ≤ k ∧ k < M 5 4) ∧ uoR M s k
def agK (M : mm_) (mask k : Int) : Prop := M 192 k = M 6 61 ∧ an_ (an_ (M 194 k) mask) (w32 (sl_ 1 (M 174 (M 6 61)) - 1)) ≠ 0
def agT (M : mm_) (k : Int) : Int := if k = M 6 62 - 1 then M 6 63 else M 199 k
def ag_ (M : mm_) (mask who k0 : Int) : Prop := ∃ k, (k0 ≤ k ∧ k < M 6 62) ∧ agK M mask k ∧ ∃ i, (M 198 k ≤ i ∧ i < agT M k) ∧ M 200 i = who
section AG
variable {d : Nat} {M N : mm_} {s t x3 mask who p : Int} {Kv : mm_ → Prop} {Qt : qt_} {V : vv_}
theorem l_170 [Inhabited gh_] (hV : Cl_ wd0 (Tr_ wd0 pg0 (d + 1)) V (rv_ Kv) Qt m_170) (hW : Wk_ V) (h2 : M 1 2 = 5) (h4 : M 5 4 ≤ 600) (ht : 0 ≤ t ∧ t < 1202) (h7 : 0 ≤ M 1 7 ∧ M 1 7 < 2147483647) (hy : uo_ M s → Kv (nt1_ M 6 t)) (hn : ¬ uo_ M s → Kv M) : ∀ (n : Nat) (k : Int), M 5 4 - k ≤ (n : Int) → 0 ≤ k → k ≤ M 5 4 ∨ M 5 4 < 0 → (∀ j, 0 ≤ j → j < k → ¬ uoR M s j) → V 5 [rr 1, ii s, ii t, ii 0, ii k] [] M := by
  have fin : ∀ k, M 5 4 ≤ k → (∀ j, 0 ≤ j → j < k → ¬ uoR M s j) → V 5 [rr 1, ii s, ii t, ii 0, ii k] [] M := fun k hk hj => by
    refine b_170_5 (Tr_mono _) hV hW _ _ _ _ _ ⟨h2, ?_⟩
    rw [if_neg (by omega), if_pos rfl]
    exact rv_i (hn (fun ⟨j, ⟨j0, j1⟩, h⟩ => hj j j0 (by omega) h))
  intro n
  induction n with
  | zero => intro k hk k0 _ hj; exact fin k (by omega) hj
  | succ n ih =>
    intro k hk k0 kk hj
    by_cases c : k < M 5 4
    · have nxt : ¬ uoR M s k → V 5 [rr 1, ii s, ii t, ii 0, ii (k + 1)] [] M := fun hk' => ih (k + 1) (by omega) (by omega) (by omega) (fun j j0 j1 => by
        by_cases e : j = k
        · rw [e]; exact hk'
        · exact hj j j0 (by omega))
      refine b_170_5 (Tr_mono _) hV hW _ _ _ _ _ ⟨h2, ?_⟩
      have b6 : 0 ≤ k ∧ k < 600 := by omega
      rw [if_pos c, if_pos rfl, w32_id (by omega) (by omega)]
      refine ⟨h2, b6, ?_⟩
      by_cases c1 : M 134 k = M 1 18
      · rw [if_pos c1]
        refine ⟨h2, b6, ?_⟩
        by_cases c2 : M 133 k < 2
        · rw [if_pos c2]
          refine ⟨h2, b6, ?_⟩
          by_cases c3 : M 136 k = s
          · rw [if_pos c3]
            refine ⟨h2, b6, ?_⟩
            by_cases c4 : an_ (M 135 k) (M 1 34) = 0
            · rw [if_pos c4]; exact nxt (fun h => h.2.2.2 c4)
            · rw [if_neg c4]
              have hu : uo_ M s := ⟨k, ⟨k0, c⟩, c1, c2, c3, c4⟩
              refine b_170_5 (Tr_mono _) hV hW _ _ _ _ _ ⟨h2, ?_⟩
              by_cases c5 : k + 1 < M 5 4
              · rw [if_pos c5, if_neg (by decide), if_neg (by decide)]
                exact x_116 ht.1 ht.2 h7.1 h7.2 (rv_i (hy hu))
              · rw [if_neg c5, if_neg (by decide)]
                exact x_116 ht.1 ht.2 h7.1 h7.2 (rv_i (hy hu))
          · rw [if_neg c3]; exact nxt (fun h => c3 h.2.2.1)
        · rw [if_neg c2]; exact nxt (fun h => c2 h.2.1)
      · rw [if_neg c1]; exact nxt (fun h => c1 h.1)
    · exact fin k (by omega) hj
theorem x_170 [Inhabited gh_] (h2 : M 1 2 = 5) (h4 : 0 ≤ M 5 4 ∧ M 5 4 ≤ 600) (ht : 0 ≤ t ∧ t < 1202) (h7 : 0 ≤ M 1 7 ∧ M 1 7 < 2147483647) (hy : uo_ M s → Kv (nt1_ M 6 t)) (hn : ¬ uo_ M s → Kv M) : Tr_ wd0 pg0 (d + 2) 170 [.inr (.inr 1), .inl s, .inl t] M (rv_ Kv) Qt := t_170 fun V hV hW => b_170_0 (Tr_mono _) hV hW _ _ _ (l_170 hV hW h2 h4.2 ht h7 hy hn (M 5 4).toNat 0 (by omega) (by omega) (by omega) (fun j a b => by omega))
theorem ntQ_r [Inhabited gh_] {k : Int} {r : Nat} (h : r ≠ 6) : nt_ N k p r = N r := by
  unfold nt_ bf_; split
  · rfl
  · split
    · rw [up_ne h, up_ne h]
    · rfl
theorem ntQ_6 [Inhabited gh_] {k i : Int} (h1 : i ≠ 13) (h2 : i ≠ 14) : nt_ N k p 6 i = N 6 i := by
  unfold nt_ bf_; split
  · rfl
  · split
    · rw [up_off h2, up_off h1]
    · rfl
theorem ag_nt [Inhabited gh_] {k0 : Int} : ag_ (nt_ N 6 p) mask who k0 ↔ ag_ N mask who k0 := by
  unfold ag_ agK agT
  rw [ntQ_r (r := 192) (by decide), ntQ_r (r := 194) (by decide), ntQ_r (r := 174) (by decide), ntQ_r (r := 198) (by decide), ntQ_r (r := 199) (by decide), ntQ_r (r := 200) (by decide), ntQ_6 (i := 61) (by decide) (by decide), ntQ_6 (i := 62) (by decide) (by decide), ntQ_6 (i := 63) (by decide) (by decide)]
theorem l_309b [Inhabited gh_] (hV : Cl_ wd0 (Tr_ wd0 pg0 (d + 1)) V (rv_ Kv) Qt m_309) (hW : Wk_ V) {k to : Int} (hk : 0 ≤ k ∧ k < 1300) (hto : to ≤ 1300) : ∀ (n : Nat) (i : Int) (N : mm_), to - i ≤ (n : Int) → 0 ≤ i → ((∃ j, (i ≤ j ∧ j < to) ∧ N 200 j = who) → V 11 [rr 6, ii mask, ii who, ii p, ii (k + 1), none, none] [] (nt_ N 6 p)) → ((¬ ∃ j, (i ≤ j ∧ j < to) ∧ N 200 j = who) → V 11 [rr 6, ii mask, ii who, ii p, ii (k + 1), none, none] [] N) → V 99 [rr 6, ii mask, ii who, ii p, ii k, ii to, ii i] [] N := by
  have fin : ∀ (i : Int) (N : mm_), to ≤ i → ((¬ ∃ j, (i ≤ j ∧ j < to) ∧ N 200 j = who) → V 11 [rr 6, ii mask, ii who, ii p, ii (k + 1), none, none] [] N) → V 99 [rr 6, ii mask, ii who, ii p, ii k, ii to, ii i] [] N := fun i N hi h0 => by
    refine b_309_99 (Tr_mono _) hV hW _ _ _ _ _ _ _ ?_
    rw [if_neg (by omega), w32_id (by omega) (by omega)]
    exact h0 (fun ⟨j, h, _⟩ => by omega)
  intro n
  induction n with
  | zero => intro i N hn _ _ h0; exact fin i N (by omega) h0
  | succ n ih =>
    intro i N hn i0 h1 h0
    by_cases c : i < to
    · refine b_309_99 (Tr_mono _) hV hW _ _ _ _ _ _ _ ?_
      rw [if_pos c, w32_id (by omega) (by omega)]
      refine ⟨by omega, ?_⟩
      by_cases c2 : N 200 i = who
      · rw [if_pos c2]
        have g := h1 ⟨i, ⟨Int.le_refl _, c⟩, c2⟩
        refine q_236 (ih (i + 1) _ (by omega) (by omega) (fun _ => by rw [nt_nt]; exact g) (fun _ => g))
      · rw [if_neg c2]
        refine ih (i + 1) N (by omega) (by omega) (fun ⟨j, h, e⟩ => h1 ⟨j, ⟨by omega, h.2⟩, e⟩) (fun h => h0 (fun ⟨j, hj, e⟩ => h ⟨j, ⟨?_, hj.2⟩, e⟩))
        have : j ≠ i := fun e' => c2 (by rw [← e']; exact e)
        omega
    · exact fin i N (by omega) h0
theorem l_309 [Inhabited gh_] (hV : Cl_ wd0 (Tr_ wd0 pg0 (d + 1)) V (rv_ Kv) Qt m_309) (hW : Wk_ V) : ∀ (n : Nat) (k : Int) (N : mm_), N 6 62 - k ≤ (n : Int) → 0 ≤ k → N 6 62 ≤ 1300 → (0 ≤ N 6 61 ∧ N 6 61 < 6) → (∀ j, 0 ≤ j → j < N 6 62 → 0 ≤ N 198 j ∧ agT N j ≤ 1300) → (ag_ N mask who k → Kv (nt_ N 6 p)) → (¬ ag_ N mask who k → Kv N) → V 11 [rr 6, ii mask, ii who, ii p, ii k, none, none] [] N := by
  have fin : ∀ (k : Int) (N : mm_), N 6 62 ≤ k → (¬ ag_ N mask who k → Kv N) → V 11 [rr 6, ii mask, ii who, ii p, ii k, none, none] [] N := fun k N hk h0 => by
    refine b_309_11 (Tr_mono _) hV hW _ _ _ _ _ ?_
    rw [if_neg (by omega)]
    exact rv_i (h0 (fun ⟨j, h, _⟩ => by omega))
  intro n
  induction n with
  | zero => intro k N hn _ _ _ _ _ h0; exact fin k N (by omega) h0
  | succ n ih =>
    intro k N hn k0 h62 h61 hrow h1 h0
    by_cases c : k < N 6 62
    · have bk : 0 ≤ k ∧ k < 1300 := by omega
      have skip : (¬ (agK N mask k ∧ ∃ i, (N 198 k ≤ i ∧ i < agT N k) ∧ N 200 i = who)) → V 11 [rr 6, ii mask, ii who, ii p, ii (k + 1), none, none] [] N := fun hk => by
        refine ih (k + 1) N (by omega) (by omega) h62 h61 hrow (fun ⟨j, h, g⟩ => h1 ⟨j, ⟨by omega, h.2⟩, g⟩) (fun h => h0 (fun ⟨j, hj, g⟩ => h ⟨j, ⟨?_, hj.2⟩, g⟩))
        have : j ≠ k := fun e => hk (by rw [← e]; exact g)
        omega
      have hit : (agK N mask k ∧ ∃ i, (N 198 k ≤ i ∧ i < agT N k) ∧ N 200 i = who) → V 11 [rr 6, ii mask, ii who, ii p, ii (k + 1), none, none] [] (nt_ N 6 p) := fun hk => by
        have g := h1 ⟨k, ⟨Int.le_refl _, c⟩, hk⟩
        have e62 : nt_ N 6 p 6 62 = N 6 62 := ntQ_6 (by decide) (by decide)
        refine ih (k + 1) (nt_ N 6 p) (by rw [e62]; omega) (by omega) (by rw [e62]; exact h62) (by rw [ntQ_6 (by decide) (by decide)]; exact h61) (fun j a b => ?_) (fun _ => by rw [nt_nt]; exact g) (fun _ => g)
        rw [e62] at b
        unfold agT
        rw [ntQ_r (r := 198) (by decide), ntQ_r (r := 199) (by decide), e62, ntQ_6 (i := 63) (by decide) (by decide)]
        exact hrow j a b
      refine b_309_11 (Tr_mono _) hV hW _ _ _ _ _ ?_
      rw [if_pos c, w32_id (x := k + 1) (by omega) (by omega), w32_id (x := N 6 62 - 1) (by omega) (by omega)]
      refine ⟨bk, ?_⟩
      have hr := hrow k k0 c
      by_cases c1 : N 192 k = N 6 61
      · rw [if_pos c1]
        refine ⟨bk, h61, ?_⟩
        by_cases c2 : an_ (an_ (N 194 k) mask) (w32 (sl_ 1 (N 174 (N 6 61)) - 1)) = 0
        · rw [if_pos c2]; exact skip (fun h => h.1.2 c2)
        · rw [if_neg c2]
          have go : V 99 [rr 6, ii mask, ii who, ii p, ii k, ii (agT N k), ii (N 198 k)] [] N := l_309b hV hW bk hr.2 (agT N k - N 198 k).toNat _ N (by omega) hr.1 (fun h => hit ⟨⟨c1, c2⟩, h⟩) (fun h => skip (fun g => h g.2))
          unfold agT at go
          by_cases c3 : k = N 6 62 - 1
          · rw [if_pos c3]; rw [if_pos c3] at go; exact ⟨bk, go⟩
          · rw [if_neg c3]; rw [if_neg c3] at go; exact ⟨bk, bk, go⟩
      · rw [if_neg c1]; exact skip (fun h => c1 h.1.1)
    · exact fin k N (by omega) h0
theorem q_309 [Inhabited gh_] (h16 : N 6 16 = 1) (h62 : N 6 62 ≤ 1300) (h61 : 0 ≤ N 6 61 ∧ N 6 61 < 6) (hrow : ∀ j, 0 ≤ j → j < N 6 62 → 0 ≤ N 198 j ∧ agT N j ≤ 1300) (h1 : ag_ N mask who 0 → Kv (nt_ N 6 p)) (h0 : ¬ ag_ N mask who 0 → Kv N) : Tr_ wd0 pg0 (d + 2) 309 [.inr (.inr 6), .inl mask, .inl who, .inl p] N (rv_ Kv) Qt := t_309 fun V hV hW => b_309_0 (Tr_mono _) hV hW _ _ _ _ (fun _ => by
  rw [if_neg (by omega)]
  exact l_309 hV hW (N 6 62).toNat 0 N (by omega) (by omega) h62 h61 hrow h1 h0)
theorem q_309z [Inhabited gh_] (h16 : N 6 16 = 0) (h : Kv N) : Tr_ wd0 pg0 (d + 2) 309 [.inr (.inr 6), .inl mask, .inl who, .inl p] N (rv_ Kv) Qt := t_309 fun V hV hW => b_309_0 (Tr_mono _) hV hW _ _ _ _ (fun _ => by
  rw [if_pos h16]
  exact rv_i h)
end AG
end T170_ag
section T171_sr
/-! states: masks; X's stims against Q's -/
section SRa
variable {x y m n s : Int}
theorem an_bt [Inhabited gh_] (hx : 0 ≤ x ∧ x < 2147483648) (hy : 0 ≤ y ∧ y < 2147483648) : (0 ≤ an_ x y ∧ an_ x y < 2147483648) ∧ (∀ l : Int, 0 ≤ l → (bt_ (an_ x y) l ↔ bt_ x l ∧ bt_ y l)) := by
  obtain ⟨a, ha⟩ := Int.eq_ofNat_of_zero_le hx.1
  obtain ⟨c, hc⟩ := Int.eq_ofNat_of_zero_le hy.1
  have e : an_ x y = ((a &&& c : Nat) : Int) := by rw [ha, hc]; exact an_nat (by omega) (by omega)
  have hl : a &&& c ≤ a := Nat.and_le_left
  rw [e]
  refine ⟨⟨by omega, by omega⟩, fun l l0 => ?_⟩
  unfold bt_
  rw [ha, hc, Int.toNat_natCast, Int.toNat_natCast, Int.toNat_natCast, Nat.testBit_and, Bool.and_eq_true]
theorem bt_ne [Inhabited gh_] (hx : 0 ≤ x) : x ≠ 0 ↔ ∃ l : Int, 0 ≤ l ∧ bt_ x l := by
  obtain ⟨a, ha⟩ := Int.eq_ofNat_of_zero_le hx
  constructor
  · intro h
    have h0 : a ≠ 0 := fun e => h (by rw [ha, e]; rfl)
    obtain ⟨i, hi⟩ := Nat.exists_testBit_of_ne_zero h0
    refine ⟨(i : Int), by omega, ?_⟩
    unfold bt_
    rw [ha, Int.toNat_natCast, Int.toNat_natCast]; exact hi
  · rintro ⟨l, l0, h⟩ e
    unfold bt_ at h
    rw [e] at h
    have z : (0 : Int).toNat = 0 := rfl
    rw [z, Nat.zero_testBit] at h
    exact absurd h (by decide)
theorem ones_bt [Inhabited gh_] (h : 0 ≤ n ∧ n ≤ 12) : (0 ≤ w32 (sl_ 1 n - 1) ∧ w32 (sl_ 1 n - 1) < 4096) ∧ ∀ l : Int, 0 ≤ l → (bt_ (w32 (sl_ 1 n - 1)) l ↔ l < n) := by
  obtain ⟨k, hk⟩ := Int.eq_ofNat_of_zero_le h.1
  have hk12 : k ≤ 12 := by omega
  have hp : (2 : Nat) ^ k ≤ 2 ^ 12 := Nat.pow_le_pow_right (by decide) hk12
  have hp1 : 1 ≤ (2 : Nat) ^ k := Nat.one_le_two_pow
  have e : w32 (sl_ 1 n - 1) = ((2 ^ k - 1 : Nat) : Int) := by
    rw [hk, sl_1 (by omega), w32_id (by omega) (by omega)]; omega
  rw [e]
  refine ⟨by omega, fun l l0 => ?_⟩
  obtain ⟨i, hi⟩ := Int.eq_ofNat_of_zero_le l0
  unfold bt_
  rw [hi, Int.toNat_natCast, Int.toNat_natCast, Nat.testBit_two_pow_sub_one, decide_eq_true_eq, hk]
  omega
/-- X's mask and Q's mean the same states (n states there are) -/
def MB (n x y : Int) : Prop := (0 ≤ x ∧ x < 4096) ∧ (0 ≤ y ∧ y < 4096) ∧ ∀ l : Int, 0 ≤ l → (bt_ x l ↔ bt_ y l ∧ l < n)
theorem MB_an [Inhabited gh_] {x' y' : Int} (hn : 0 ≤ n ∧ n ≤ 12) (h : MB n x y) (h' : MB n x' y') : an_ x x' ≠ 0 ↔ an_ (an_ y y') (w32 (sl_ 1 n - 1)) ≠ 0 := by
  obtain ⟨a1, a2, a3⟩ := h
  obtain ⟨b1, b2, b3⟩ := h'
  have p := an_bt (x := x) (y := x') (by omega) (by omega)
  have q := an_bt (x := y) (y := y') (by omega) (by omega)
  have o := ones_bt hn
  have r := an_bt (x := an_ y y') (y := w32 (sl_ 1 n - 1)) q.1 (by omega)
  rw [bt_ne p.1.1, bt_ne r.1.1]
  constructor
  · rintro ⟨l, l0, h⟩
    have h1 := (p.2 l l0).mp h
    have h2 := (a3 l l0).mp h1.1
    have h3 := (b3 l l0).mp h1.2
    exact ⟨l, l0, (r.2 l l0).mpr ⟨(q.2 l l0).mpr ⟨h2.1, h3.1⟩, (o.2 l l0).mpr h2.2⟩⟩
  · rintro ⟨l, l0, h⟩
    have h1 := (r.2 l l0).mp h
    have h2 := (q.2 l l0).mp h1.1
    have h3 := (o.2 l l0).mp h1.2
    exact ⟨l, l0, (p.2 l l0).mpr ⟨(a3 l l0).mpr ⟨h2.1, h3⟩, (b3 l l0).mpr ⟨h2.2, h3⟩⟩⟩
end SRa
end T171_sr
section T172_sr
/-! states: X's stims against Q's -/
def nSt (N : mm_) (k : Int) : Int := if N 193 k < 2 then agT N k - N 198 k else 1
/-- a row of Q's stims, and X's rows for it from c on -/
def SRK (Mx Mq : mm_) (c k : Int) : Prop := (0 ≤ Mq 192 k ∧ Mq 192 k < 6) ∧ (0 ≤ Mq 193 k ∧ Mq 193 k ≤ 3) ∧ (0 ≤ Mq 198 k ∧ Mq 198 k ≤ agT Mq k ∧ agT Mq k ≤ Mq 6 63) ∧ (2 ≤ Mq 193 k → agT Mq k = Mq 198 k)
  ∧ ∀ j, 0 ≤ j → j < nSt Mq k → Mx 133 (c + j) = Mq 193 k ∧ Mx 134 (c + j) = Mq 192 k ∧ MB (Mx 123 (Mq 192 k)) (Mx 135 (c + j)) (Mq 194 k) ∧ (Mq 193 k < 2 → Mx 136 (c + j) = Mq 200 (Mq 198 k + j))
def SRW (Mx Mq : mm_) (xs : Int → Int) : Prop := (0 ≤ Mq 6 62 ∧ xs 0 = 0 ∧ xs (Mq 6 62) = Mx 5 4) ∧ ∀ k, 0 ≤ k → k < Mq 6 62 → xs (k + 1) = xs k + nSt Mq k ∧ SRK Mx Mq (xs k) k
section SRb
variable {Mx Mq : mm_} {xs : Int → Int} {s mask T : Int}
theorem SRK_n [Inhabited gh_] {c k : Int} (h : SRK Mx Mq c k) : 0 ≤ nSt Mq k := by
  unfold nSt; obtain ⟨_, _, h3, _⟩ := h; split <;> omega
theorem SRW_f [Inhabited gh_] (h : SRW Mx Mq xs) : ∀ n : Nat, (n : Int) ≤ Mq 6 62 → 0 ≤ xs n ∧ (∀ k, 0 ≤ k → k ≤ (n : Int) → xs k ≤ xs n) ∧ ∀ y, 0 ≤ y → y < xs n → ∃ k j, (0 ≤ k ∧ k < (n : Int)) ∧ (0 ≤ j ∧ j < nSt Mq k) ∧ y = xs k + j
  | 0, _ => by
    have e : xs ((0 : Nat) : Int) = 0 := h.1.2.1
    refine ⟨by omega, fun k a b => ?_, fun y a b => by omega⟩
    rw [show k = ((0 : Nat) : Int) by omega]; exact Int.le_refl _
  | n + 1, hn => by
    obtain ⟨g1, g2, g3⟩ := SRW_f h n (by omega)
    obtain ⟨e, hk⟩ := h.2 (n : Int) (by omega) (by omega)
    have n0 := SRK_n hk
    have e' : xs ((n + 1 : Nat) : Int) = xs n + nSt Mq n := by rw [show ((n + 1 : Nat) : Int) = (n : Int) + 1 by omega]; exact e
    refine ⟨by omega, fun k a b => ?_, fun y a b => ?_⟩
    · by_cases c : k = ((n + 1 : Nat) : Int)
      · rw [c]; exact Int.le_refl _
      · have := g2 k a (by omega); omega
    · by_cases c : y < xs n
      · obtain ⟨k, j, hk, hj, ey⟩ := g3 y a c
        exact ⟨k, j, ⟨hk.1, by omega⟩, hj, ey⟩
      · exact ⟨n, y - xs n, ⟨by omega, by omega⟩, ⟨by omega, by omega⟩, by omega⟩
theorem SRW_m [Inhabited gh_] (h : SRW Mx Mq xs) {k : Int} (h0 : 0 ≤ k) (h1 : k < Mq 6 62) : 0 ≤ xs k ∧ xs k + nSt Mq k ≤ Mx 5 4 := by
  have f1 := SRW_f h k.toNat (by omega)
  rw [show ((k.toNat : Nat) : Int) = k by omega] at f1
  have f2 := SRW_f h (Mq 6 62).toNat (by omega)
  rw [show (((Mq 6 62).toNat : Nat) : Int) = Mq 6 62 by omega] at f2
  have := f2.2.1 (k + 1) (by omega) (by omega)
  rw [(h.2 k h0 h1).1, h.1.2.2] at this
  exact ⟨f1.1, this⟩
/-- the same signal stands twice for X iff it does for Q -/
theorem uo_ag [Inhabited gh_] (h : SRW Mx Mq xs) (h18 : Mq 6 61 = Mx 1 18) (h123 : 0 ≤ Mx 123 (Mx 1 18) ∧ Mx 123 (Mx 1 18) ≤ 12) (h174 : Mq 174 (Mx 1 18) = Mx 123 (Mx 1 18)) (hm : MB (Mx 123 (Mx 1 18)) (Mx 1 34) mask) : uo_ Mx s ↔ ag_ Mq mask s 0 := by
  constructor
  · rintro ⟨y, ⟨y0, y1⟩, u1, u2, u3, u4⟩
    have f2 := SRW_f h (Mq 6 62).toNat (by have := h.1.1; omega)
    rw [show (((Mq 6 62).toNat : Nat) : Int) = Mq 6 62 by have := h.1.1; omega, h.1.2.2] at f2
    obtain ⟨k, j, hk, hj, ey⟩ := f2.2.2 y y0 y1
    obtain ⟨e, r1, r2, r3, r4, r5⟩ := h.2 k hk.1 hk.2
    obtain ⟨q1, q2, q3, q4⟩ := r5 j hj.1 hj.2
    rw [ey] at u1 u2 u3 u4
    rw [q1] at u2
    rw [q2] at u1
    have hn : nSt Mq k = agT Mq k - Mq 198 k := by unfold nSt; rw [if_pos u2]
    refine ⟨k, hk, ⟨by rw [h18]; exact u1, ?_⟩, Mq 198 k + j, ⟨by omega, by omega⟩, by rw [← q4 u2]; exact u3⟩
    rw [u1] at q3
    rw [h18, h174]
    exact (MB_an h123 q3 hm).mp u4
  · rintro ⟨k, hk, ⟨a1, a2⟩, i, hi, a3⟩
    obtain ⟨e, r1, r2, r3, r4, r5⟩ := h.2 k hk.1 hk.2
    have k2 : Mq 193 k < 2 := by
      by_cases c : Mq 193 k < 2
      · exact c
      · have := r4 (by omega); omega
    have hn : nSt Mq k = agT Mq k - Mq 198 k := by unfold nSt; rw [if_pos k2]
    obtain ⟨q1, q2, q3, q4⟩ := r5 (i - Mq 198 k) (by omega) (by omega)
    have m := SRW_m h hk.1 hk.2
    rw [h18] at a1
    rw [h18, h174] at a2
    rw [a1] at q3
    refine ⟨xs k + (i - Mq 198 k), ⟨by omega, by omega⟩, by rw [q2]; exact a1, by rw [q1]; exact k2, ?_, (MB_an h123 q3 hm).mpr a2⟩
    rw [q4 k2, show Mq 198 k + (i - Mq 198 k) = i by omega]; exact a3
end SRb
end T172_sr
section T173_si
/-! states: a stim, an in more -/
def inM_ (N : mm_) (who : Int) : mm_ := up_ (up_ (up_ N 200 (N 6 63) who) 201 (N 6 63) 0) 6 63 (N 6 63 + 1)
def sot (Mq : mm_) (v : Int) : Int := if tmr Mq v = -1 then sgl Mq v else 100 + tmr Mq v
section SI
variable {d : Nat} {Mx Mq : mm_} {xs : Int → Int} {s w mk t : Int} {K : Int → mm_ → Prop} {Qt : qt_}
theorem x_172 [Inhabited gh_] (hT : Tks Mx Mq) (hV : VT Mx Mq) (h9 : sgl9 Mx Mq) (ht : nm9_ Mx t) (h : K (sot Mq (Mq 151 t)) Mx) : Tr_ wd0 pg0 (d + 4) 172 [.inr (.inr 1), .inl t] Mx (ri_ K) Qt := by
  refine t_172 fun V hV' hW => b_172_0 (Tr_mono _) hV' hW _ _ (x_129R hT hV ht ?_)
  unfold sot at h
  have r := tmr_r hV (v := Mq 151 t)
  by_cases c : tmr Mq (Mq 151 t) = -1
  · rw [if_pos c]; rw [if_pos c] at h
    exact x_112R hT hV h9 ht (ri_i h)
  · rw [if_neg c]; rw [if_neg c] at h
    have b3 : Mq 173 (Mq 6 61) ≤ 3 := by have := hV.2.2.2.2.2; rw [hV.2.1]; omega
    rw [w32_id (by omega) (by omega)]
    exact ri_i h
theorem inM_r [Inhabited gh_] {who : Int} {r : Nat} (h6 : r ≠ 6) (h0 : r ≠ 200) (h1 : r ≠ 201) : inM_ Mq who r = Mq r := by unfold inM_; rw [up_ne h6, up_ne h1, up_ne h0]
theorem inM_6 [Inhabited gh_] {who i : Int} (h : i ≠ 63) : inM_ Mq who 6 i = Mq 6 i := by unfold inM_; rw [up_off h, up_ne (by decide), up_ne (by decide)]
theorem inM_63 [Inhabited gh_] {who : Int} : inM_ Mq who 6 63 = Mq 6 63 + 1 := by unfold inM_; rw [up_at]
theorem inM_200 [Inhabited gh_] {who i : Int} : inM_ Mq who 200 i = if i = Mq 6 63 then who else Mq 200 i := by
  unfold inM_; rw [up_ne (by decide), up_ne (by decide)]
  by_cases c : i = Mq 6 63
  · rw [if_pos c, c, up_at]
  · rw [if_neg c, up_of2 c]
theorem inM_QSb [Inhabited gh_] {who : Int} : QSb Mq (inM_ Mq who) := ⟨fun r hr => inM_r (fun e => hr (by rw [e]; decide)) (fun e => hr (by rw [e]; decide)) (fun e => hr (by rw [e]; decide)), fun i hi => inM_6 (nm_i hi (by decide))⟩
/-- an in more, of the last stim -/
theorem SRW_in [Inhabited gh_] (h : SRW Mx Mq xs) (hk : 0 < Mq 6 62) (hw : w = 0 ∨ w = 1) (e3 : Mq 193 (Mq 6 62 - 1) = w) (e2 : Mq 192 (Mq 6 62 - 1) = Mx 1 18) (hm : MB (Mx 123 (Mx 1 18)) (Mx 1 34) (Mq 194 (Mq 6 62 - 1))) : ∃ xs', SRW (stX_ Mx w s) (inM_ Mq s) xs' := by
  have e62 : inM_ Mq s 6 62 = Mq 6 62 := inM_6 (by decide)
  have kr := stX_k (M := Mx) (w := w) (s := s)
  have x123 : stX_ Mx w s 123 = Mx 123 := stX_r (by decide) (by decide)
  have aT : ∀ k, k < Mq 6 62 - 1 → agT (inM_ Mq s) k = agT Mq k := fun k hk => by
    unfold agT; rw [e62, if_neg (by omega), if_neg (by omega), inM_r (by decide) (by decide) (by decide)]
  have aL : agT (inM_ Mq s) (Mq 6 62 - 1) = Mq 6 63 + 1 := by unfold agT; rw [e62, if_pos rfl, inM_63]
  have aL0 : agT Mq (Mq 6 62 - 1) = Mq 6 63 := by unfold agT; rw [if_pos rfl]
  have r192 : inM_ Mq s 192 = Mq 192 := inM_r (by decide) (by decide) (by decide)
  have r193 : inM_ Mq s 193 = Mq 193 := inM_r (by decide) (by decide) (by decide)
  have r194 : inM_ Mq s 194 = Mq 194 := inM_r (by decide) (by decide) (by decide)
  have r198 : inM_ Mq s 198 = Mq 198 := inM_r (by decide) (by decide) (by decide)
  refine ⟨fun k => if k = Mq 6 62 then Mx 5 4 + 1 else xs k, ⟨by rw [e62]; exact h.1.1, ?_, ?_⟩, fun k k0 k1 => ?_⟩
  · show (if (0 : Int) = Mq 6 62 then Mx 5 4 + 1 else xs 0) = 0
    rw [if_neg (by omega)]; exact h.1.2.1
  · show (if inM_ Mq s 6 62 = Mq 6 62 then Mx 5 4 + 1 else xs (inM_ Mq s 6 62)) = _
    rw [if_pos e62, stX_54]
  · rw [e62] at k1
    obtain ⟨e, g1, g2, g3, g4, g5⟩ := h.2 k k0 k1
    have m := SRW_m h k0 k1
    show (if k + 1 = Mq 6 62 then Mx 5 4 + 1 else xs (k + 1)) = (if k = Mq 6 62 then Mx 5 4 + 1 else xs k) + nSt (inM_ Mq s) k ∧ SRK (stX_ Mx w s) (inM_ Mq s) (if k = Mq 6 62 then Mx 5 4 + 1 else xs k) k
    rw [if_neg (show ¬ k = Mq 6 62 by omega)]
    have old : ∀ j, 0 ≤ j → j < nSt Mq k → stX_ Mx w s 133 (xs k + j) = Mq 193 k ∧ stX_ Mx w s 134 (xs k + j) = Mq 192 k ∧ MB (Mx 123 (Mq 192 k)) (stX_ Mx w s 135 (xs k + j)) (Mq 194 k) ∧ (Mq 193 k < 2 → stX_ Mx w s 136 (xs k + j) = inM_ Mq s 200 (Mq 198 k + j)) := fun j j0 j1 => by
      obtain ⟨q1, q2, q3, q4⟩ := g5 j j0 j1
      rw [stX_o (r := 133) (by decide) (by omega), stX_o (r := 134) (by decide) (by omega), stX_o (r := 135) (by decide) (by omega), stX_o (r := 136) (by decide) (by omega)]
      refine ⟨q1, q2, q3, fun h2 => ?_⟩
      have hn : nSt Mq k = agT Mq k - Mq 198 k := by unfold nSt; rw [if_pos h2]
      rw [inM_200, if_neg (by omega)]; exact q4 h2
    by_cases c : k = Mq 6 62 - 1
    · have k2 : Mq 193 k < 2 := by rw [c, e3]; omega
      have n0 : nSt Mq k = agT Mq k - Mq 198 k := by unfold nSt; rw [if_pos k2]
      have n1 : nSt (inM_ Mq s) k = nSt Mq k + 1 := by
        rw [n0]; unfold nSt; rw [r193, if_pos k2, r198, c, aL, aL0]; omega
      have ex : xs k + nSt Mq k = Mx 5 4 := by rw [← e, c, show Mq 6 62 - 1 + 1 = Mq 6 62 by omega]; exact h.1.2.2
      refine ⟨by rw [if_pos (by omega), n1]; omega, by rw [r192]; exact g1, by rw [r193]; exact g2, by rw [r198, c, aL, inM_63]; rw [c, aL0] at g3; omega, fun h2 => by rw [r193] at h2; omega, fun j j0 j1 => ?_⟩
      rw [n1] at j1
      rw [r192, r193, r194, r198, x123]
      by_cases cj : j < nSt Mq k
      · exact old j j0 cj
      · have ej : xs k + j = Mx 5 4 := by omega
        have ei : Mq 198 k + j = Mq 6 63 := by rw [c, aL0] at n0; rw [c]; rw [c] at cj j1; omega
        rw [ej, kr.1, kr.2.1, kr.2.2.1, kr.2.2.2.1, ei, inM_200, if_pos rfl, c, e3, e2]
        exact ⟨rfl, rfl, hm, fun _ => rfl⟩
    · have n1 : nSt (inM_ Mq s) k = nSt Mq k := by unfold nSt; rw [r193, r198, aT k (by omega)]
      refine ⟨by rw [if_neg (by omega), n1]; exact e, by rw [r192]; exact g1, by rw [r193]; exact g2, by rw [r198, aT k (by omega), inM_63]; omega, fun h2 => by rw [r193] at h2; rw [aT k (by omega), r198]; exact g4 h2, fun j j0 j1 => ?_⟩
      rw [n1] at j1
      rw [r192, r193, r194, r198, x123]
      exact old j j0 j1
end SI
end T173_si
section T174_si
/-! states: a stim more -/
section SJ
variable {d : Nat} {Mx Mq : mm_} {xs : Int → Int} {s w mk t : Int}
theorem agT_st [Inhabited gh_] (hL : 0 < Mq 6 62 → Mq 199 (Mq 6 62 - 1) = Mq 6 63) {k : Int} (k0 : 0 ≤ k) (k1 : k < Mq 6 62) : agT (stQ_ Mq w mk) k = agT Mq k := by
  unfold agT
  rw [stQ_62, if_neg (by omega), stQ_o (r := 199) (by decide) (by omega)]
  by_cases c : k = Mq 6 62 - 1
  · rw [if_pos c, c]; exact hL (by omega)
  · rw [if_neg c]
theorem agT_sl [Inhabited gh_] : agT (stQ_ Mq w mk) (Mq 6 62) = Mq 6 63 := by
  unfold agT
  rw [stQ_62, if_pos (by omega), stQ_6 (by decide)]
/-- rows that were there stay -/
theorem SRK_st [Inhabited gh_] {M' : mm_} (hL : 0 < Mq 6 62 → Mq 199 (Mq 6 62 - 1) = Mq 6 63) {c k : Int} (k0 : 0 ≤ k) (k1 : k < Mq 6 62) (h : SRK Mx Mq c k) (h123 : M' 123 = Mx 123) (hx : ∀ r i, r ∈ stxL → i < c + nSt Mq k → M' r i = Mx r i) : nSt (stQ_ Mq w mk) k = nSt Mq k ∧ SRK M' (stQ_ Mq w mk) c k := by
  obtain ⟨g1, g2, g3, g4, g5⟩ := h
  have n : k ≠ Mq 6 62 := by omega
  have e2 : stQ_ Mq w mk 192 k = Mq 192 k := stQ_o (by decide) n
  have e3 : stQ_ Mq w mk 193 k = Mq 193 k := stQ_o (by decide) n
  have e4 : stQ_ Mq w mk 194 k = Mq 194 k := stQ_o (by decide) n
  have e8 : stQ_ Mq w mk 198 k = Mq 198 k := stQ_o (by decide) n
  have e20 : stQ_ Mq w mk 200 = Mq 200 := stQ_r (by decide) (by decide)
  have aT := agT_st (w := w) (mk := mk) hL k0 k1
  have n1 : nSt (stQ_ Mq w mk) k = nSt Mq k := by unfold nSt; rw [e3, e8, aT]
  refine ⟨n1, by rw [e2]; exact g1, by rw [e3]; exact g2, by rw [e8, aT, stQ_6 (by decide)]; exact g3, fun h2 => by rw [e3] at h2; rw [aT, e8]; exact g4 h2, fun j j0 j1 => ?_⟩
  rw [n1] at j1
  rw [e2, e3, e4, e8, e20, h123, hx 133 _ (by decide) (by omega), hx 134 _ (by decide) (by omega), hx 135 _ (by decide) (by omega), hx 136 _ (by decide) (by omega)]
  exact g5 j j0 j1
/-- an input or save begins -/
theorem SRW_st0 [Inhabited gh_] (h : SRW Mx Mq xs) (hL : 0 < Mq 6 62 → Mq 199 (Mq 6 62 - 1) = Mq 6 63) (h63 : 0 ≤ Mq 6 63) (hw : w = 0 ∨ w = 1) (hT : 0 ≤ Mq 6 61 ∧ Mq 6 61 < 6) : ∃ xs', SRW Mx (stQ_ Mq w mk) xs' := by
  have k := stQ_k (N := Mq) (w := w) (mk := mk)
  have n0 : nSt (stQ_ Mq w mk) (Mq 6 62) = 0 := by unfold nSt; rw [k.2.1, if_pos (by omega), agT_sl, k.2.2.2.2.2.2.1]; omega
  have z := h.1.1
  refine ⟨fun k => if k = Mq 6 62 + 1 then Mx 5 4 else xs k, ⟨by rw [stQ_62]; omega, ?_, ?_⟩, fun i k0 k1 => ?_⟩
  · show (if (0 : Int) = Mq 6 62 + 1 then Mx 5 4 else xs 0) = 0
    rw [if_neg (by omega)]; exact h.1.2.1
  · show (if stQ_ Mq w mk 6 62 = Mq 6 62 + 1 then Mx 5 4 else xs (stQ_ Mq w mk 6 62)) = _
    rw [if_pos stQ_62]
  · rw [stQ_62] at k1
    show (if i + 1 = Mq 6 62 + 1 then Mx 5 4 else xs (i + 1)) = (if i = Mq 6 62 + 1 then Mx 5 4 else xs i) + nSt (stQ_ Mq w mk) i ∧ SRK Mx (stQ_ Mq w mk) (if i = Mq 6 62 + 1 then Mx 5 4 else xs i) i
    rw [if_neg (show ¬ i = Mq 6 62 + 1 by omega)]
    by_cases c : i = Mq 6 62
    · rw [if_pos (by omega), c, n0, h.1.2.2]
      refine ⟨by omega, by rw [k.1]; exact hT, by rw [k.2.1]; omega, by rw [k.2.2.2.2.2.2.1, agT_sl, stQ_6 (by decide)]; omega, fun _ => by rw [k.2.2.2.2.2.2.1, agT_sl], fun j j0 j1 => by rw [n0] at j1; omega⟩
    · obtain ⟨e, hk⟩ := h.2 i k0 (by omega)
      have q := SRK_st (M' := Mx) (w := w) (mk := mk) hL k0 (by omega) hk rfl (fun _ _ _ _ => rfl)
      exact ⟨by rw [if_neg (by omega), q.1]; exact e, q.2⟩
/-- a when or none -/
theorem SRW_st1 [Inhabited gh_] (h : SRW Mx Mq xs) (hL : 0 < Mq 6 62 → Mq 199 (Mq 6 62 - 1) = Mq 6 63) (h63 : 0 ≤ Mq 6 63) (hw : w = 2 ∨ w = 3) (hT : 0 ≤ Mq 6 61 ∧ Mq 6 61 < 6) (h18 : Mq 6 61 = Mx 1 18) (hm : MB (Mx 123 (Mx 1 18)) (Mx 1 34) mk) : ∃ xs', SRW (stX_ Mx w s) (stQ_ Mq w mk) xs' := by
  have k := stQ_k (N := Mq) (w := w) (mk := mk)
  have kx := stX_k (M := Mx) (w := w) (s := s)
  have x123 : stX_ Mx w s 123 = Mx 123 := stX_r (by decide) (by decide)
  have n0 : nSt (stQ_ Mq w mk) (Mq 6 62) = 1 := by unfold nSt; rw [k.2.1, if_neg (by omega)]
  have z := h.1.1
  refine ⟨fun k => if k = Mq 6 62 + 1 then Mx 5 4 + 1 else xs k, ⟨by rw [stQ_62]; omega, ?_, ?_⟩, fun i k0 k1 => ?_⟩
  · show (if (0 : Int) = Mq 6 62 + 1 then Mx 5 4 + 1 else xs 0) = 0
    rw [if_neg (by omega)]; exact h.1.2.1
  · show (if stQ_ Mq w mk 6 62 = Mq 6 62 + 1 then Mx 5 4 + 1 else xs (stQ_ Mq w mk 6 62)) = _
    rw [if_pos stQ_62, stX_54]
  · rw [stQ_62] at k1
    show (if i + 1 = Mq 6 62 + 1 then Mx 5 4 + 1 else xs (i + 1)) = (if i = Mq 6 62 + 1 then Mx 5 4 + 1 else xs i) + nSt (stQ_ Mq w mk) i ∧ SRK (stX_ Mx w s) (stQ_ Mq w mk) (if i = Mq 6 62 + 1 then Mx 5 4 + 1 else xs i) i
    rw [if_neg (show ¬ i = Mq 6 62 + 1 by omega)]
    by_cases c : i = Mq 6 62
    · rw [if_pos (by omega), c, n0, h.1.2.2]
      refine ⟨by omega, by rw [k.1]; exact hT, by rw [k.2.1]; omega, by rw [k.2.2.2.2.2.2.1, agT_sl, stQ_6 (by decide)]; omega, fun _ => by rw [k.2.2.2.2.2.2.1, agT_sl], fun j j0 j1 => ?_⟩
      rw [n0] at j1
      rw [show Mx 5 4 + j = Mx 5 4 by omega, kx.1, kx.2.1, kx.2.2.1, k.1, k.2.1, k.2.2.1, x123, h18]
      exact ⟨rfl, rfl, hm, fun h2 => by omega⟩
    · obtain ⟨e, hk⟩ := h.2 i k0 (by omega)
      have m := SRW_m h k0 (by omega)
      have q := SRK_st (M' := stX_ Mx w s) (w := w) (mk := mk) hL k0 (by omega) hk x123 (fun r j hr hj => stX_o hr (by omega))
      exact ⟨by rw [if_neg (by omega), q.1]; exact e, q.2⟩
end SJ
end T174_si
section T175_ss
/-! states: between the steps of a state's line -/
section SS
variable {b F F' : Int} {Mx Mq M1 N1 : mm_} {a a' s w mk mask : Int} {xs : Int → Int}
/-- TS does not see the tables of stims -/
theorem TS_c [Inhabited gh_] (h : TS b F Mx Mq a) (hx : XSb Mx M1) (hq : QSb Mq N1) (h1 : ∀ i : Int, i ≠ 22 → i ≠ 34 → M1 1 i = Mx 1 i) (h5 : M1 5 3 = Mx 5 3) (h59 : M1 59 = Mx 59) (h62 : M1 62 = Mx 62) (h123 : M1 123 = Mx 123) (h128 : M1 128 = Mx 128)
    (h6 : ∀ i : Int, i ≠ 62 → i ≠ 63 → N1 6 i = Mq 6 i) (h174 : N1 174 = Mq 174) (h175 : N1 175 = Mq 175) (h179 : N1 179 = Mq 179) (h180 : N1 180 = Mq 180) (h187 : N1 187 = Mq 187) : TS b F M1 N1 a := by
  obtain ⟨⟨t1, t2, t3, t4, t5, t6⟩, g, l, s, ⟨u1, u2⟩, w, r, ⟨k1, k2⟩, n1, n2⟩ := h
  have e71 : M1 71 = Mx 71 := XSb_r hx (by decide)
  have i6 : ∀ i : Int, i ≠ 62 → i ≠ 63 → N1 6 i = Mq 6 i := h6
  have hE : ER b F M1 N1 a 0 := ER_X2 (ER_Q t3 (i6 _ (by decide) (by decide)) (i6 _ (by decide) (by decide)) (i6 _ (by decide) (by decide)) (i6 _ (by decide) (by decide)) (i6 _ (by decide) (by decide))) (XSb_r hx (by decide)) (fun i x y => h1 i (by omega) (by omega)) h5 (h1 19 (by omega) (by omega))
  exact ⟨⟨Tks_b hx hq t1, VT_b hx hq t2, hE, by rw [i6 75 (by decide) (by decide)]; exact t4, by rw [i6 104 (by decide) (by decide)]; exact t5, by rw [h5]; exact t6⟩, by rw [e71]; exact GT_b hx hq g, LBT_b l hx hq h62 h128 h175 h180 h187, stt9_b hx hq h59 h123 h174 h179 s, ⟨by rw [h1 29 (by decide) (by decide)]; exact u1, by rw [i6 76 (by decide) (by decide)]; exact u2⟩, by rw [h1 7 (by decide) (by decide)]; exact w, by rw [i6 90 (by decide) (by decide)]; exact r, ⟨by rw [h1 21 (by decide) (by decide)]; exact k1, by rw [h1 23 (by decide) (by decide)]; exact k2⟩, by rw [h1 19 (by decide) (by decide)]; exact n1, by rw [h5]; exact n2⟩
theorem TS_st [Inhabited gh_] (h : TS b F Mx Mq a) : TS b F (stX_ Mx w s) Mq a := TS_c h stX_XSb QSb_rf (fun i _ _ => by rw [stX_r (by decide) (by decide)]) (stX_5 (by decide)) (stX_r (by decide) (by decide)) (stX_r (by decide) (by decide)) (stX_r (by decide) (by decide)) (stX_r (by decide) (by decide)) (fun _ _ _ => rfl) rfl rfl rfl rfl rfl
theorem TS_sq [Inhabited gh_] (h : TS b F Mx Mq a) : TS b F Mx (stQ_ Mq w mk) a := TS_c h XSb_rf stQ_QSb (fun _ _ _ => rfl) rfl rfl rfl rfl rfl (fun i h _ => stQ_6 h) (stQ_r (by decide) (by decide)) (stQ_r (by decide) (by decide)) (stQ_r (by decide) (by decide)) (stQ_r (by decide) (by decide)) (stQ_r (by decide) (by decide))
theorem TS_in [Inhabited gh_] (h : TS b F Mx Mq a) : TS b F Mx (inM_ Mq s) a := TS_c h XSb_rf inM_QSb (fun _ _ _ => rfl) rfl rfl rfl rfl rfl (fun i _ h => inM_6 h) (inM_r (by decide) (by decide) (by decide)) (inM_r (by decide) (by decide) (by decide)) (inM_r (by decide) (by decide) (by decide)) (inM_r (by decide) (by decide) (by decide)) (inM_r (by decide) (by decide) (by decide))
theorem TS_E [Inhabited gh_] (h : TS b F Mx Mq a) : ER b F Mx Mq a 0 := h.1.2.2.1
/-- a token on -/
theorem GT_p [Inhabited gh_] {p p' : Int} (h : GT b F Mx Mq p) (hp : p ≤ p') : GT b F Mx Mq p' := GT_F h (Int.le_refl _) hp
theorem TS_go [Inhabited gh_] (h : TS b F Mx Mq a) (hE : ER b F (nX_ Mx) (nx_ Mq) (a + 1) 0) : TS b F (nX_ Mx) (nx_ Mq) (a + 1) := by
  have hT := h.1.1
  obtain ⟨⟨t1, t2, t3, t4, t5, t6⟩, g, l, s, ⟨u1, u2⟩, w, r, ⟨k1, k2⟩, n1, n2⟩ := h
  have xf : XF Mx (nX_ Mx) := nX_XF
  have xa := XF_XA xf
  have qa : QA Mq (nx_ Mq) := QF_QA nx_QF
  have y1 : ∀ i : Int, i ≠ 3 → nX_ Mx 1 i = Mx 1 i := fun i h => nX_1 h
  have y6 : ∀ i : Int, i ≠ 12 → nx_ Mq 6 i = Mq 6 i := fun i h => nx_6 h
  have e5 : nX_ Mx 5 = Mx 5 := nX_ne (by decide)
  have e71 : nX_ Mx 71 = Mx 71 := nX_ne (by decide)
  have ga1 : gd_ Mx (a + 1) := gd_c (nX_ne (by decide) : nX_ Mx 70 = Mx 70).symm hE.1
  have hp : Mx 71 a ≤ Mx 71 (a + 1) := by have := (t1 (a + 1) ga1).2.2.2.2.1 a t3.1 (by omega); omega
  exact ⟨⟨Tks_a xa qa t1, VT_a xa qa t2, hE, by rw [y6 75 (by decide)]; omega, by rw [y6 104 (by decide)]; omega, by rw [e5]; omega⟩, by rw [e71]; exact GT_p (GT_a xa qa g) hp, LBT_c l xa qa (nX_ne (by decide)) (nX_ne (by decide)) (nx_ne (by decide)) (nx_ne (by decide)) (nx_ne (by decide)) (by omega), stt9_a xa qa s, ⟨by rw [y1 29 (by decide)]; omega, by rw [y6 76 (by decide)]; omega⟩, by rw [y1 7 (by decide)]; omega, by rw [y6 90 (by decide)]; omega, ⟨by rw [y1 21 (by decide)]; exact k1, by rw [y1 23 (by decide)]; exact k2⟩, by rw [y1 19 (by decide)]; exact n1, by rw [e5]; omega⟩
end SS
end T175_ss
section T176_ss
/-! states: the relation within a state's lines -/
def SS [Inhabited gh_] (b F : Int) (Mx Mq : mm_) (a mask e : Int) : Prop := TS b F Mx Mq a ∧ ((0 ≤ Mx 5 4 ∧ 2 * Mx 5 4 ≤ a + e) ∧ (0 ≤ Mq 6 62 ∧ 2 * Mq 6 62 ≤ a + e) ∧ (0 ≤ Mq 6 63 ∧ 2 * Mq 6 63 ≤ a + e)) ∧ (0 ≤ mask ∧ mask < 4096)
  ∧ (b = 1 → (∃ xs, SRW Mx Mq xs) ∧ (0 < Mq 6 62 → Mq 199 (Mq 6 62 - 1) = Mq 6 63) ∧ MB (Mx 123 (Mx 1 18)) (Mx 1 34) mask)
section SSb
variable {b F F' : Int} {Mx Mq M1 N1 : mm_} {a a' s w mk mask ee : Int} {xs : Int → Int}
theorem agT_c [Inhabited gh_] {k : Int} (h199 : N1 199 = Mq 199) (h62 : N1 6 62 = Mq 6 62) (h63 : N1 6 63 = Mq 6 63) : agT N1 k = agT Mq k := by unfold agT; rw [h199, h62, h63]
theorem SRW_c [Inhabited gh_] (h : SRW Mx Mq xs) (h54 : M1 5 4 = Mx 5 4) (h123 : M1 123 = Mx 123) (h133 : M1 133 = Mx 133) (h134 : M1 134 = Mx 134) (h135 : M1 135 = Mx 135) (h136 : M1 136 = Mx 136)
    (h62 : N1 6 62 = Mq 6 62) (h63 : N1 6 63 = Mq 6 63) (h192 : N1 192 = Mq 192) (h193 : N1 193 = Mq 193) (h194 : N1 194 = Mq 194) (h198 : N1 198 = Mq 198) (h199 : N1 199 = Mq 199) (h200 : N1 200 = Mq 200) : SRW M1 N1 xs := by
  have e : agT N1 = agT Mq := funext fun k => agT_c h199 h62 h63
  unfold SRW SRK nSt at *
  rw [h54, h123, h133, h134, h135, h136, h62, h63, h192, h193, h194, h198, h200, e]
  exact h
/-- SRW stays over acts, parts, transes -/
theorem SRW_a [Inhabited gh_] (h : SRW Mx Mq xs) (hx : XA Mx M1) (hq : QA Mq N1) : SRW M1 N1 xs := SRW_c h (hx.2.2 4 (by decide)) (XA_r hx (by decide)) (XA_r hx (by decide)) (XA_r hx (by decide)) (XA_r hx (by decide)) (XA_r hx (by decide)) (hq.2 62 (by decide)) (hq.2 63 (by decide)) (QA_r hq (by decide)) (QA_r hq (by decide)) (QA_r hq (by decide)) (QA_r hq (by decide)) (QA_r hq (by decide)) (QA_r hq (by decide))
theorem SRW_t [Inhabited gh_] {mx st : Int} (h : SRW Mx Mq xs) : SRW (sX_ Mx mx) (tM_ Mq st mk) xs := by
  have e5 : sX_ Mx mx 5 = Mx 5 := sX_r (by decide) (by decide) (by decide) (by decide) (by decide)
  exact SRW_c h (by rw [e5]) (sX_r (by decide) (by decide) (by decide) (by decide) (by decide)) (sX_r (by decide) (by decide) (by decide) (by decide) (by decide)) (sX_r (by decide) (by decide) (by decide) (by decide) (by decide)) (sX_r (by decide) (by decide) (by decide) (by decide) (by decide)) (sX_r (by decide) (by decide) (by decide) (by decide) (by decide)) (tM_6 (by decide) (by decide) (by decide)) (tM_6 (by decide) (by decide) (by decide)) (tM_r (by decide) (by decide) (by decide) (by decide) (by decide) (by decide)) (tM_r (by decide) (by decide) (by decide) (by decide) (by decide) (by decide)) (tM_r (by decide) (by decide) (by decide) (by decide) (by decide) (by decide)) (tM_r (by decide) (by decide) (by decide) (by decide) (by decide) (by decide)) (tM_r (by decide) (by decide) (by decide) (by decide) (by decide) (by decide)) (tM_r (by decide) (by decide) (by decide) (by decide) (by decide) (by decide))
/-- a trans leaves SS -/
theorem SS_t [Inhabited gh_] {mx st kk : Int} {M' N' : mm_} (h : SS b F Mx Mq a mask ee) (hT : TS b F' (Xn_ M' b kk a') (Qn_ N' b kk (M' 71 a')) a') (hP : PRC b F F' (sX_ Mx mx) (tM_ Mq st mk) M' N' a a' 0 0 (Mq 6 76)) : SS b F' (Xn_ M' b kk a') (Qn_ N' b kk (M' 71 a')) a' mask ee := by
  obtain ⟨h1, ⟨s1, s2, s3⟩, hm, h4⟩ := h
  have ha : a ≤ a' := hP.2.2.2.2.1.1
  have hx := hP.2.2.1.1
  have hq := hP.2.2.1.2
  have xa : XA M' (Xn_ M' b kk a') := XF_XA Xn_XF
  have qa : QA N' (Qn_ N' b kk (M' 71 a')) := QF_QA (QN_QF QN_Qn)
  have xx := XA_tr hx xa
  have qq := QA_tr hq qa
  have e5 : sX_ Mx mx 5 = Mx 5 := sX_r (by decide) (by decide) (by decide) (by decide) (by decide)
  have f54 : Xn_ M' b kk a' 5 4 = Mx 5 4 := by rw [xx.2.2 4 (by decide), e5]
  have f62 : Qn_ N' b kk (M' 71 a') 6 62 = Mq 6 62 := by rw [qq.2 62 (by decide)]; exact tM_6 (by decide) (by decide) (by decide)
  have f63 : Qn_ N' b kk (M' 71 a') 6 63 = Mq 6 63 := by rw [qq.2 63 (by decide)]; exact tM_6 (by decide) (by decide) (by decide)
  refine ⟨hT, ⟨by rw [f54]; omega, by rw [f62]; omega, by rw [f63]; omega⟩, hm, fun hb => ?_⟩
  obtain ⟨⟨xs, hs⟩, hl, hmb⟩ := h4 hb
  refine ⟨⟨xs, SRW_a (SRW_t hs) xx qq⟩, fun h => ?_, ?_⟩
  · rw [f62, f63, QA_r qq (r := 199) (by decide), tM_r (by decide) (by decide) (by decide) (by decide) (by decide) (by decide)]
    rw [f62] at h
    exact hl h
  · rw [xx.2.1 34 (by decide), xx.2.1 18 (by decide), XA_r xx (r := 123) (by decide), sX_1 (by decide), sX_1 (by decide), sX_r (by decide) (by decide) (by decide) (by decide) (by decide)]
    exact hmb
end SSb
end T176_ss
section T177_no
/-! states: NONE -/
def SQb [Inhabited gh_] (Mx' M M' : mm_) : Prop := sp_ M' ∧ in9_ M' ∧ M' 6 13 = Mx' 1 4 ∧ P14 Mx' M' ∧ QSb M M'
/-- Q: NONE within a state's lines -/
def qFR (dq : Nat) (mask : Int) (N : mm_) (G : mm_ → Prop) (Qt : qt_) : Prop := Tr_ wd0 pg0 (dq + 16) 228 [.inr (.inr 6), .inl 10] N (ri_ fun v5 M5 => if v5 = 0 then False else
  Tr_ wd0 pg0 (dq + 16) 244 [.inr (.inr 6), .inl 59] M5 (rv_ fun M6 => Tr_ wd0 pg0 (dq + 16) 307 [.inr (.inr 6), .inl 3, .inl mask] M6 (ri_ fun v6 M7 => Tr_ wd0 pg0 (dq + 16) 260 [.inr (.inr 6), .inl 0, .inl mask] M7 (rv_ fun M8 => Tr_ wd0 pg0 (dq + 16) 314 [.inr (.inr 6), .inl v6] M8 (rv_ G) Qt) Qt) Qt) Qt) Qt
def X2_ (b : Int) (M : mm_) (w : Int) : mm_ := if b = 0 then M else stX_ M w (-1)
section NO
variable {d dq : Nat} {b F F' : Int} {Mx Mq M N M1 N1 : mm_} {a a' s w mk mask k ee : Int} {Kv G : mm_ → Prop} {Qt : qt_}
theorem q_260z [Inhabited gh_] {st mk : Int} (hs : sp_ N) (h : Kv N) : Tr_ wd0 pg0 (d + 2) 260 [.inr (.inr 6), .inl st, .inl mk] N (rv_ Kv) Qt := t_260 fun V hV hW => b_260_0 (Tr_mono _) hV hW _ _ _ (q_227s hs (by rw [if_neg (by decide)]; exact rv_i h))
theorem q_314s [Inhabited gh_] (hs : sp_ N) (h : Kv N) : Tr_ wd0 pg0 (d + 2) 314 [.inr (.inr 6), .inl k] N (rv_ Kv) Qt := t_314 fun V hV hW => b_314_0 (Tr_mono _) hV hW _ _ (q_227s hs (by rw [if_neg (by decide)]; exact rv_i h))
theorem q_314g [Inhabited gh_] (hg : go_ N) (hk : 0 ≤ k ∧ k < 1300) (e : N 199 k = N 198 k) (h : Kv N) : Tr_ wd0 pg0 (d + 2) 314 [.inr (.inr 6), .inl k] N (rv_ Kv) Qt := t_314 fun V hV hW => b_314_0 (Tr_mono _) hV hW _ _ (q_227g hg (by
  rw [if_pos rfl, if_neg (by omega), up_id]
  exact ⟨hk, hk, hk, hk, rv_i h⟩))
/-- Q, stopped within NONE -/
theorem qFR_s [Inhabited gh_] {v5 : Int} (hs : sp_ N) (h : G N) (h5 : v5 ≠ 0) : (if v5 = 0 then False else
  Tr_ wd0 pg0 (dq + 16) 244 [.inr (.inr 6), .inl 59] N (rv_ fun M6 => Tr_ wd0 pg0 (dq + 16) 307 [.inr (.inr 6), .inl 3, .inl mask] M6 (ri_ fun v6 M7 => Tr_ wd0 pg0 (dq + 16) 260 [.inr (.inr 6), .inl 0, .inl mask] M7 (rv_ fun M8 => Tr_ wd0 pg0 (dq + 16) 314 [.inr (.inr 6), .inl v6] M8 (rv_ G) Qt) Qt) Qt) Qt) := by
  rw [if_neg h5]
  exact q_244s hs (q_307s hs (q_260z hs (q_314s hs h)))
theorem X2_r [Inhabited gh_] {r : Nat} (h5 : r ≠ 5) (h : r ∉ stxL) : X2_ b M w r = M r := by
  unfold X2_; split
  · rfl
  · exact stX_r h5 h
theorem X2_5 [Inhabited gh_] {i : Int} (h : i ≠ 4) : X2_ b M w 5 i = M 5 i := by
  unfold X2_; split
  · rfl
  · exact stX_5 h
theorem X2_XSb [Inhabited gh_] : XSb M (X2_ b M w) := by
  unfold X2_; split
  · exact XSb_rf
  · exact stX_XSb
/-- a token on -/
theorem SS_go [Inhabited gh_] (h : SS b F Mx Mq a mask ee) (hE : ER b F (nX_ Mx) (nx_ Mq) (a + 1) 0) : SS b F (nX_ Mx) (nx_ Mq) (a + 1) mask (ee - 1) := by
  obtain ⟨h1, ⟨s1, s2, s3⟩, hm, h4⟩ := h
  have xa : XA Mx (nX_ Mx) := XF_XA nX_XF
  have qa : QA Mq (nx_ Mq) := QF_QA nx_QF
  refine ⟨TS_go h1 hE, ⟨by rw [nX_ne (by decide)]; omega, by rw [nx_6 (by decide)]; omega, by rw [nx_6 (by decide)]; omega⟩, hm, fun hb => ?_⟩
  obtain ⟨⟨xs, hs⟩, hl, hmb⟩ := h4 hb
  refine ⟨⟨xs, SRW_a hs xa qa⟩, fun h => ?_, ?_⟩
  · rw [nx_6 (by decide), nx_6 (by decide), nx_ne (by decide)]; rw [nx_6 (by decide)] at h; exact hl h
  · rw [nX_ne (by decide), nX_1 (by decide), nX_1 (by decide)]; exact hmb
/-- a when or none begins: SS with one token's room -/
theorem SS_st1 [Inhabited gh_] (h : SS b F Mx Mq a mask ee) (hw : w = 2 ∨ w = 3) : SS b F (X2_ b Mx w) (stQ_ Mq w mask) a mask (ee + 2) := by
  obtain ⟨h1, ⟨s1, s2, s3⟩, hm, h4⟩ := h
  have hV := h1.1.2.1
  have h01 := bl01 (TS_E h1)
  have t1 : TS b F (X2_ b Mx w) (stQ_ Mq w mask) a := by
    unfold X2_; split
    · exact TS_sq h1
    · exact TS_sq (TS_st h1)
  refine ⟨t1, ⟨?_, by rw [stQ_62]; omega, by rw [stQ_6 (by decide)]; omega⟩, hm, fun hb => ?_⟩
  · unfold X2_; split
    · omega
    · rw [stX_54]; omega
  · obtain ⟨⟨xs, hs⟩, hl, hmb⟩ := h4 hb
    have e : X2_ b Mx w = stX_ Mx w (-1) := by unfold X2_; rw [if_neg (by omega)]
    rw [e]
    have k := stQ_k (N := Mq) (w := w) (mk := mask)
    refine ⟨SRW_st1 hs hl s3.1 hw (by rw [hV.2.1]; exact ⟨hV.2.2.1, hV.2.2.2.1⟩) hV.2.1 hmb, fun _ => ?_, ?_⟩
    · rw [stQ_62, show Mq 6 62 + 1 - 1 = Mq 6 62 by omega, stQ_6 (by decide)]; exact k.2.2.2.2.2.2.2
    · rw [stX_r (r := 123) (by decide) (by decide), stX_r (r := 1) (by decide) (by decide)]; exact hmb
end NO
end T177_no
section T178_no
/-! states: NONE, joined -/
/-- X's stim gets its trans -/
def X9_ (b : Int) (M : mm_) (k c : Int) : mm_ := if b = 0 then M else up_ M 141 k c
section NP
variable {d dq : Nat} {b F F' : Int} {Mx Mq M N M1 N1 : mm_} {a a' s w mk mask k c ee : Int} {Kv G : mm_ → Prop} {Qt : qt_}
theorem X9_r [Inhabited gh_] {r : Nat} (h : r ≠ 141) : X9_ b M k c r = M r := by
  unfold X9_; split
  · rfl
  · exact up_ne h
theorem SS_9 [Inhabited gh_] (h : SS b F Mx Mq a mask ee) : SS b F (X9_ b Mx k c) Mq a mask ee := by
  obtain ⟨h1, ⟨s1, s2, s3⟩, hm, h4⟩ := h
  have e : ∀ r : Nat, r ≠ 141 → X9_ b Mx k c r = Mx r := fun r h => X9_r h
  have xb : XSb Mx (X9_ b Mx k c) := ⟨fun r hr => e r (fun h => hr (by rw [h]; decide)), fun i _ => by rw [e 1 (by decide)], fun i _ _ => by rw [e 5 (by decide)]⟩
  refine ⟨TS_c h1 xb QSb_rf (fun i _ _ => by rw [e 1 (by decide)]) (by rw [e 5 (by decide)]) (e _ (by decide)) (e _ (by decide)) (e _ (by decide)) (e _ (by decide)) (fun _ _ _ => rfl) rfl rfl rfl rfl rfl, ⟨by rw [e 5 (by decide)]; exact s1, s2, s3⟩, hm, fun hb => ?_⟩
  obtain ⟨⟨xs, hs⟩, hl, hmb⟩ := h4 hb
  refine ⟨⟨xs, SRW_c hs (by rw [e 5 (by decide)]) (e _ (by decide)) (e _ (by decide)) (e _ (by decide)) (e _ (by decide)) (e _ (by decide)) rfl rfl rfl rfl rfl rfl rfl rfl⟩, hl, ?_⟩
  rw [e 1 (by decide), e 123 (by decide)]; exact hmb
/-- NONE in the text -/
def noS (κ : Int → Int) (lm : Int → Int → Bool) (s : sj_) : Option sj_ := (gS s.1).bind fun a1 => (tS κ 259 a1).bind fun a2 => PTj κ lm 12 (a2, s.2)
theorem y_177 [Inhabited gh_] (h : SS b F Mx Mq a mask 0) (hk : Mx 70 a = 10) (hS : b = 1 → noS (Mx 70) (LMT Mx) (a, lc_ b Mx) ≠ none)
    (hK : ∀ F' M' N' a' v kk, SS b F' (X9_ b (Xn_ M' b kk a') (Mx 5 4) (Mx 5 3)) (Qn_ N' b kk (M' 71 a')) a' mask 0 → a + 2 ≤ a' → PRC b F F' (sX_ (X2_ b (nX_ (nX_ Mx)) 3) (Mx 1 34)) (tM_ (stQ_ (nx_ (nx_ Mq)) 3 mask) 0 mask) M' N' (a + 1 + 1) a' 0 0 (Mq 6 76) → SEM b (sX_ (X2_ b (nX_ (nX_ Mx)) 3) (Mx 1 34)) (tM_ (stQ_ (nx_ (nx_ Mq)) 3 mask) 0 mask) M' N' v → (v = 0 ∨ v = 1) → kk = (if v = 0 then 6 else 0) → (b = 1 → Qn_ N' b kk (M' 71 a') 6 13 = 0 → kk = 0 ∧ N' 6 13 = 0)
      → (∀ lm, LOK b lm Mx M' → noS (Mx 70) lm (a, lc_ b Mx) = some (a', lc_ b M')) → (∀ (G : mm_ → Prop) (Qtq : qt_), G (Qn_ N' b kk (M' 71 a')) → qFR dq mask Mq G Qtq) → Kv (X9_ b (Xn_ M' b kk a') (Mx 5 4) (Mx 5 3)))
    (hQ : b = 0 → ∀ Mx', XSb Mx Mx' → (∀ (G : mm_ → Prop) (Qtq : qt_), (∀ M', SQb Mx' Mq M' → G M') → qFR dq mask Mq G Qtq) → Qt 8 Mx') :
    Tr_ wd0 pg0 129 177 [.inr (.inr 1)] Mx (rv_ Kv) Qt := by
  have hE := TS_E h.1
  have hT := h.1.1.1
  have ha := ER_a hE
  have h01 := bl01 hE
  have hf := h.1.2.2.2.2.2.1
  have u := h.1.2.2.2.2.1
  have bnd := h.2.1
  have stopped : ∀ {Mx' M2 : mm_}, SQ Mx' Mq M2 → SQb Mx' Mq M2 := fun hs => ⟨hs.1, hs.2.1, hs.2.2.1, hs.2.2.2.1, QA_QSb hs.2.2.2.2⟩
  refine t_177 fun V hV hW => b_177_0 (Tr_mono _) hV hW _ ?_
  refine y_105 hE (by omega) (fun hb e => by have := hS hb; unfold noS at this; rw [e] at this; exact this rfl) (fun h12 hE1 => ?_) (fun hb h12 => ?_)
  rotate_left
  · have hsp := SQ_bf hE hb (k := 2) (by decide) QA_rf
    exact hQ hb _ (XA_XSb (XF_XA fl_XF)) (fun G Qtq hk9 => j_228r hT hE hb (by decide) hk h12 (qFR_s hsp.1 (hk9 _ (stopped hsp)) (by decide)))
  have S1 := SS_go h hE1
  have hT1 := S1.1.1.1
  have x70 : nX_ Mx 70 = Mx 70 := nX_ne (by decide)
  have eN : ∀ lm j, noS (Mx 70) lm (a, j) = (tS (Mx 70) 259 (a + 1)).bind fun a2 => PTj (Mx 70) lm 12 (a2, j) := fun lm j => by unfold noS; rw [gS_e h12, Option.bind_some]
  refine y_121 hE1 (by decide) (fun hb => by rw [x70]; have := hS hb; rw [eN] at this; exact bind_n this) (fun k1 h13 hE2 => ?_) (fun hb k1 h13 => ?_) (fun hb k1 => ?_)
  rotate_left
  · have hsp := SQ_bf hE1 hb (k := 2) (by decide) (QF_QA nx_QF)
    refine hQ hb _ (XA_XSb (XF_XA (XF_tr nX_XF fl_XF))) (fun G Qtq hk9 => j_228t hT hE (by decide) hk h12 ?_)
    rw [if_neg (by decide)]
    exact j_244r hT1 hE1 hb (by decide) k1 h13 (q_307s hsp.1 (q_260z hsp.1 (q_314s hsp.1 (hk9 _ (stopped hsp)))))
  · have hsp := SQ_bf hE1 hb (k := 1) (by decide) (QF_QA nx_QF)
    refine hQ hb _ (XA_XSb (XF_XA (XF_tr nX_XF fl_XF))) (fun G Qtq hk9 => j_228t hT hE (by decide) hk h12 ?_)
    rw [if_neg (by decide)]
    exact j_244w hT1 hE1 hb (by decide) k1 (q_307s hsp.1 (q_260z hsp.1 (q_314s hsp.1 (hk9 _ (stopped hsp)))))
  have S2 := SS_go S1 hE2
  have k1' : Mx 70 (a + 1) = 259 := by rw [← x70]; exact k1
  have eN2 : ∀ lm j, noS (Mx 70) lm (a, j) = PTj (Mx 70) lm 12 (a + 1 + 1, j) := fun lm j => by rw [eN, tS_e k1' h13, Option.bind_some]
  have f54 : nX_ (nX_ Mx) 5 = Mx 5 := by rw [nX_ne (by decide), nX_ne (by decide)]
  have f1 : ∀ i : Int, i ≠ 3 → nX_ (nX_ Mx) 1 i = Mx 1 i := fun i hi => by rw [nX_1 hi, nX_1 hi]
  have g6 : ∀ i : Int, i ≠ 12 → nx_ (nx_ Mq) 6 i = Mq 6 i := fun i hi => by rw [nx_6 hi, nx_6 hi]
  have S3 := SS_st1 (w := 3) S2 (.inr rfl)
  rw [show (0 : Int) - 1 - 1 + 2 = 0 by decide] at S3
  have v12 : nX_ (nX_ Mx) 1 2 = 5 := by rw [f1 2 (by decide)]; exact h.1.1.2.1.1
  have main : V 28 [rr 1, ii (if b = 0 then -1 else Mx 5 4), none] [] (X2_ b (nX_ (nX_ Mx)) 3) := by
    have e1 : X2_ b (nX_ (nX_ Mx)) 3 1 = nX_ (nX_ Mx) 1 := X2_r (by decide) (by decide)
    have e53 : X2_ b (nX_ (nX_ Mx)) 3 5 3 = Mx 5 3 := by rw [X2_5 (by decide), f54]
    have e70 : X2_ b (nX_ (nX_ Mx)) 3 70 = Mx 70 := by rw [X2_r (by decide) (by decide), nX_ne (by decide), nX_ne (by decide)]
    have q76 : stQ_ (nx_ (nx_ Mq)) 3 mask 6 76 = Mq 6 76 := by rw [stQ_6 (by decide), g6 76 (by decide)]
    have lk := LKP_X (b := b) (M1 := X2_ b (nX_ (nX_ Mx)) 3) (Mx := Mx) (by rw [X2_r (by decide) (by decide), nX_ne (by decide), nX_ne (by decide)]) (by rw [X2_r (by decide) (by decide), nX_ne (by decide), nX_ne (by decide)]) (by rw [e1, f1 18 (by decide)]) (by rw [e1, f1 19 (by decide)])
    have e29 : X2_ b (nX_ (nX_ Mx)) 3 1 29 = Mx 1 29 := by rw [e1, f1 29 (by decide)]
    have e7 : X2_ b (nX_ (nX_ Mx)) 3 1 7 = Mx 1 7 := by rw [e1, f1 7 (by decide)]
    have e34 : X2_ b (nX_ (nX_ Mx)) 3 1 34 = Mx 1 34 := by rw [e1, f1 34 (by decide)]
    have xsb : XSb Mx (X2_ b (nX_ (nX_ Mx)) 3) := XSb_tr (XA_XSb (XF_XA (XF_tr nX_XF nX_XF))) X2_XSb
    have qsb : QSb Mq (stQ_ (nx_ (nx_ Mq)) 3 mask) := QSb_tr (QA_QSb (QA_tr (QF_QA nx_QF) (QF_QA nx_QF))) stQ_QSb
    have toQ : ∀ (G : mm_ → Prop) (Qtq : qt_), Tr_ wd0 pg0 (dq + 16) 260 [.inr (.inr 6), .inl 0, .inl mask] (stQ_ (nx_ (nx_ Mq)) 3 mask) (rv_ fun M8 => Tr_ wd0 pg0 (dq + 16) 314 [.inr (.inr 6), .inl (Mq 6 62)] M8 (rv_ G) Qtq) Qtq → qFR dq mask Mq G Qtq := fun G Qtq hq => j_228t hT hE (by decide) hk h12 (by
      rw [if_neg (by decide)]
      refine j_244t hT1 hE1 (by decide) k1 h13 (q_307g (ER_goq hE2) (by rw [g6 62 (by decide)]; omega) ?_)
      rw [g6 62 (by decide)]
      exact hq)
    refine b_177_28 (Tr_mono _) hV hW _ _ ⟨by rw [e1]; exact v12, ?_⟩
    rw [e34, e53]
    refine y_trn (d := 127) (dq := dq) (st := 0) (mk := mask) S3.1 (by rw [e29]; omega) (by rw [q76]; omega) (by rw [e7]; omega) (fun hb => ?_) (.inl rfl) (fun hb => ?_) (fun F' M' N' a' v kk hTS P Sm hv hkk E3 hsy hq => ?_) (fun hb Mx' hx hq => ?_)
    · have := (h.2.2.2 hb).2.2.1.1
      constructor
      · intro e; omega
      · intro e; exact absurd rfl e
    · rw [e70, lk.2, lk.1.2.2.2 hb, ← eN2]; exact hS hb
    · have S4 := SS_t S3 hTS P
      have q := P
      rw [q76] at q
      have hE4 := TS_E S4.1
      have qa : QA (tM_ (stQ_ (nx_ (nx_ Mq)) 3 mask) 0 mask) (Qn_ N' b kk (M' 71 a')) := QA_tr P.2.2.1.2 (QF_QA (QN_QF QN_Qn))
      have st := stQ_k (N := nx_ (nx_ Mq)) (w := 3) (mk := mask)
      rw [g6 62 (by decide)] at st
      have e198 : Qn_ N' b kk (M' 71 a') 199 (Mq 6 62) = Qn_ N' b kk (M' 71 a') 198 (Mq 6 62) := by
        rw [QA_r qa (r := 199) (by decide), QA_r qa (r := 198) (by decide), tM_r (by decide) (by decide) (by decide) (by decide) (by decide) (by decide), tM_r (by decide) (by decide) (by decide) (by decide) (by decide) (by decide), st.2.2.2.2.2.2.1, st.2.2.2.2.2.2.2]
      have aa : a + 1 + 1 ≤ a' := P.2.2.2.2.1.1
      have fin := hK F' M' N' a' v kk (SS_9 S4) (by omega) q Sm hv hkk E3 (fun lm hlm => ?_) (fun G Qtq hg => toQ G Qtq (hq _ _ (q_314g (ER_goq hE4) (by omega) e198 hg)))
      · intro _
        have m8 : Xn_ M' b kk a' 1 8 = b := hE4.2.2.2.2.2.2.1
        unfold X9_ at fin
        rcases h01 with hb | hb
        · rw [if_pos (by omega)]; rw [if_pos hb] at fin; exact rv_i fin
        · rw [if_neg (by omega), if_neg (by omega)]; rw [if_neg (by omega)] at fin
          exact ⟨hTS.1.2.1.1, by omega, rv_i fin⟩
      · have l0 : LKP b Mx (sX_ (X2_ b (nX_ (nX_ Mx)) 3) (Mx 1 34)) := LKP_tr lk.1 (LKP_X (sX_r (by decide) (by decide) (by decide) (by decide) (by decide)) (sX_r (by decide) (by decide) (by decide) (by decide) (by decide)) (sX_1 (by decide)) (sX_1 (by decide))).1
        have l1 := (LOK_s lk.1 (LKP_tr (LKP_X (sX_r (by decide) (by decide) (by decide) (by decide) (by decide)) (sX_r (by decide) (by decide) (by decide) (by decide) (by decide)) (sX_1 (by decide)) (sX_1 (by decide))).1 (LKP_P P)) hlm).2
        have e := hsy lm l1
        rw [e70, lk.2] at e
        rw [eN2]; exact e
    · exact hQ hb Mx' (XSb_tr xsb hx) (fun G Qtq hk9 => toQ G Qtq (hq _ _ fun M' p1 p2 p3 p4 p5 => q_314s p1 (hk9 _ ⟨p1, p2, p3, p4, QSb_tr qsb p5⟩)))
  intro _
  have m8 : nX_ (nX_ Mx) 1 8 = b := by rw [f1 8 (by decide)]; exact hE.2.2.2.2.2.2.1
  unfold X2_ at main
  rcases h01 with hb | hb
  · rw [if_pos (by omega)]; rw [if_pos hb, if_pos hb] at main; exact main
  · rw [if_neg (by omega)]; rw [if_neg (by omega), if_neg (by omega)] at main
    refine x_171 v12 (by rw [f54]; omega) ?_
    rw [f54]; exact main
end NP
end T178_no
section T179_aw
/-! states: asked -/
section AW
variable {d dq : Nat} {b F F' : Int} {Mx Mq M1 N1 : mm_} {a a' mask ee : Int} {Kv : mm_ → Prop} {Qt : qt_}
theorem TS_w [Inhabited gh_] (h : TS b F Mx Mq a) (hx : XF Mx M1) (hq : QG Mq N1) (hE : ER b F M1 N1 a' 0) (ha : a ≤ a') (h104 : 0 ≤ N1 6 104 ∧ N1 6 104 ≤ 2 * a') (h53 : M1 5 3 ≤ 9 * a' + 400) (h7 : M1 1 7 + 8 * (1201 - a') ≤ 1000000000 - (gg_ : Int)) : TS b F M1 N1 a' := by
  obtain ⟨⟨t1, t2, t3, t4, t5, t6⟩, g, l, s, ⟨u1, u2⟩, w, r, ⟨k1, k2⟩, n1, n2⟩ := h
  have xa := XF_XA hx
  have qa : QA Mq N1 := QG_QA hq
  have y1 : ∀ i : Int, i ≠ 3 → i ≠ 4 → i ≠ 5 → i ≠ 6 → i ≠ 7 → M1 1 i = Mx 1 i := hx.2.1
  have e71 : M1 71 = Mx 71 := XF_70 hx (by decide) (by decide) (by decide)
  have q6 : ∀ i : Int, i = 75 ∨ i = 76 ∨ i = 90 → N1 6 i = Mq 6 i := fun i hi => hq.2 i (by omega) (by omega) (by omega) (by omega) (by omega) (by omega) (by omega) (by omega) (by omega) (by omega) (by omega)
  have ga1 : gd_ Mx a' := gd_c (XF_70 hx (by decide) (by decide) (by decide) : M1 70 = Mx 70).symm hE.1
  have hp : Mx 71 a ≤ Mx 71 a' := by
    by_cases c : a = a'
    · rw [c]; exact Int.le_refl _
    · have := (t1 a' ga1).2.2.2.2.1 a t3.1 (by omega); omega
  have qr : ∀ r : Nat, r ≠ 6 → r < 227 → N1 r = Mq r := fun r h6 h7 => hq.1 r (by simp only [List.mem_cons, List.not_mem_nil, or_false, not_or]; omega)
  exact ⟨⟨Tks_a xa qa t1, VT_a xa qa t2, hE, by rw [q6 75 (by omega)]; omega, h104, by omega⟩, by rw [e71]; exact GT_p (GT_a xa qa g) hp, LBT_c l xa qa (XF_70 hx (by decide) (by decide) (by decide)) (XF_70 hx (by decide) (by decide) (by decide)) (qr _ (by decide) (by decide)) (qr _ (by decide) (by decide)) (qr _ (by decide) (by decide)) ha, stt9_a xa qa s, ⟨by rw [y1 29 (by decide) (by decide) (by decide) (by decide) (by decide)]; omega, by rw [q6 76 (by omega)]; omega⟩, h7, by rw [q6 90 (by omega)]; omega, ⟨by rw [y1 21 (by decide) (by decide) (by decide) (by decide) (by decide)]; exact k1, by rw [y1 23 (by decide) (by decide) (by decide) (by decide) (by decide)]; exact k2⟩, by rw [y1 19 (by decide) (by decide) (by decide) (by decide) (by decide)]; exact n1, h53⟩
theorem SS_w [Inhabited gh_] (h : SS b F Mx Mq a mask ee) (hT : TS b F M1 N1 a') (hx : XF Mx M1) (hq : QG Mq N1) (ha : a ≤ a') : SS b F M1 N1 a' mask (ee + a - a') := by
  obtain ⟨h1, ⟨s1, s2, s3⟩, hm, h4⟩ := h
  have xa := XF_XA hx
  have qa : QA Mq N1 := QG_QA hq
  have f54 : M1 5 4 = Mx 5 4 := hx.2.2 4 (by decide)
  have f62 : N1 6 62 = Mq 6 62 := qa.2 62 (by decide)
  have f63 : N1 6 63 = Mq 6 63 := qa.2 63 (by decide)
  refine ⟨hT, ⟨by omega, by omega, by omega⟩, hm, fun hb => ?_⟩
  obtain ⟨⟨xs, hs⟩, hl, hmb⟩ := h4 hb
  refine ⟨⟨xs, SRW_a hs xa qa⟩, fun h => ?_, ?_⟩
  · rw [f62, f63, QA_r qa (r := 199) (by decide)]; rw [f62] at h; exact hl h
  · rw [xa.2.1 34 (by decide), xa.2.1 18 (by decide), XA_r xa (r := 123) (by decide)]; exact hmb
/-- an e that must be true or false: X's asked | Q's wanted(2) -/
theorem y_174 [Inhabited gh_] (h : SS b F Mx Mq a mask ee) (hS : b = 1 → ES (Mx 70) 0 0 a ≠ none)
    (hK : ∀ M1 N1 a', SS b F (pX_ M1 25) N1 a' mask (ee + a - a') → WR b F Mx Mq M1 N1 a a' 0 1 → ES (Mx 70) 0 0 a = some a' → (∀ (Kq : Int → mm_ → Prop) (Qtq : qt_), Kq (Mq 6 104) N1 → Tr_ wd0 pg0 (dq + 12) 270 [.inr (.inr 6), .inl 2] Mq (ri_ Kq) Qtq) → Kv (pX_ M1 25))
    (hQ : b = 0 → ∀ Mx', XF Mx Mx' → (∀ (Kq : Int → mm_ → Prop) (Qtq : qt_), (∀ M', sp_ M' → in9_ M' → M' 6 13 = Mx' 1 4 → P14 Mx' M' → QF Mq M' → Kq (-1) M') → Tr_ wd0 pg0 (dq + 12) 270 [.inr (.inr 6), .inl 2] Mq (ri_ Kq) Qtq) → Qt 8 Mx') :
    Tr_ wd0 pg0 123 174 [.inr (.inr 1)] Mx (rv_ Kv) Qt := by
  have hTA := h.1.1
  obtain ⟨t1, t2, t3, t4, t5, t6⟩ := hTA
  have w := h.1.2.2.2.2.2.1
  have n2 := h.1.2.2.2.2.2.2.2.2.2
  have ha := ER_a t3
  refine t_174 fun V hV hW => b_174_0 (Tr_mono _) hV hW _ ?_
  refine x_w (n := 12) (dq := dq) (wq := 1) (by decide) rfl (by decide) (by decide) (fun _ => rfl) t1 t2 t3 (by omega) hS (fun M1 N1 a' hW' hes hq => ?_) hQ
  obtain ⟨w1, w2, w3, w4, w5, w6, w7, w8, w9, w10⟩ := id hW'
  have hE4 : ER b F M1 N1 a' 0 := w4
  have st4 := ER_st hE4
  have hE5 := ER_pX (v := 25) hE4 (by omega)
  have p53 : pX_ M1 25 5 3 ≤ M1 5 3 + 1 := by
    unfold pX_; split
    · omega
    · rw [up_at]; omega
  have hT1 : TS b F (pX_ M1 25) N1 a' := TS_w h.1 (XF_tr w2 pX_XF) w3 hE5 (by omega) (by omega) (by omega) (by rw [pX_1]; omega)
  refine x_138 (by rw [w2.2.1 2 (by decide) (by decide) (by decide) (by decide) (by decide)]; exact t2.1) st4.1 st4.2 (rv_i (hK M1 N1 a' (SS_w h hT1 (XF_tr w2 pX_XF) w3 (by omega)) hW' hes hq))
end AW
end T179_aw
section T180_ct
/-! a number with a bound: X's count | Q's bounded -/
def cnS (κ ν : Int → Int) (most a : Int) : Option Int := if κ a = 101 ∧ ν a ≤ most then gS a else none
section CT
variable {d dq : Nat} {b F : Int} {Mx Mq : mm_} {a o most : Int} {K : Int → mm_ → Prop} {Qt : qt_}
theorem y_124 [Inhabited gh_] (hT : Tks Mx Mq) (hE : ER b F Mx Mq a o) (hS : b = 1 → cnS (Mx 70) (Mx 73) most a ≠ none)
    (hK : Mx 70 a = 101 → Mx 73 a ≤ most → 0 ≤ Mx 73 a → a < 1200 → ER b F (nX_ Mx) (nx_ Mq) (a + 1) o → cnS (Mx 70) (Mx 73) most a = some (a + 1) → (∀ (Kq : Int → mm_ → Prop) (Qtq : qt_), Kq (Mx 73 a) (nx_ Mq) → Tr_ wd0 pg0 (dq + 4) 248 [.inr (.inr 6), .inl most] Mq (ri_ Kq) Qtq) → K (Mx 73 a) (nX_ Mx))
    (hQ : b = 0 → ∀ Mx', XF Mx Mx' → (∀ (Kq : Int → mm_ → Prop) (Qtq : qt_), (∀ v M', SQ Mx' Mq M' → Kq v M') → Tr_ wd0 pg0 (dq + 4) 248 [.inr (.inr 6), .inl most] Mq (ri_ Kq) Qtq) → Qt 8 Mx') :
    Tr_ wd0 pg0 (d + 5) 124 [.inr (.inr 1), .inl most] Mx (ri_ K) Qt := by
  obtain ⟨g1, g2, g3, g4, g5, g6⟩ := ER_k hT hE
  have ha := ER_a hE
  have h01 := bl01 hE
  have e12 : Mq 6 12 = a := hE.2.2.1
  have e3 : Mx 1 3 = a := hE.2.1
  have iX : iX_ Mx := by unfold iX_; rw [e3]; exact ha
  have num := (hT a hE.1).2.2.1
  refine t_124 fun V hV hW => b_124_0 (Tr_mono _) hV hW _ _ ?_
  refine y_103 hE (fun k1 => ?_) (fun k1 => ?_)
  · rw [if_neg (by decide), e3]
    obtain ⟨n1, n2, n3⟩ := num k1
    have q2 : Mq 149 (Mq 6 12) = 2 := by unfold KQ at g1; omega
    have ev : w32 (Mq 151 (Mq 6 12)) = Mx 73 a := by rw [e12, n1, w32_id (by omega) (by omega)]
    refine ⟨by omega, ?_⟩
    by_cases c : Mx 73 a ≤ most
    · rw [if_pos c]
      refine x_110 (by omega) (by omega) (fun _ => ?_) (fun h => absurd rfl h)
      refine x_125 iX (fun _ h12 => ?_) (fun h => absurd (by rw [e3]; exact k1) h) (fun _ h12 => ?_)
      · rw [e3] at h12 ⊢
        have hE1 := (ER_go hE h12 (by omega)).1
        refine ri_i (hK k1 c n2 h12 hE1 (by unfold cnS; rw [if_pos ⟨k1, c⟩, gS_e h12]) (fun Kq Qtq hk => ?_))
        refine t_248 fun V2 hV2 hW2 => b_248_0 (Tr_mono _) hV2 hW2 _ _ ⟨g3, q_249g (ER_goq hE) g4 (g5 h12) q2 (q_227g (ER_goq hE1) ?_)⟩
        rw [if_pos rfl, ev, if_pos c]
        exact ri_i hk
      · rw [e3] at h12 ⊢
        have hb : b = 0 := by
          rcases h01 with hb | hb
          · exact hb
          · exfalso
            have := hS hb
            unfold cnS at this
            rw [if_pos ⟨k1, c⟩] at this
            have := gS_n this
            omega
        have hsp := SQ_bf hE hb (k := 2) (by decide) QA_rf
        refine hQ hb _ fl_XF (fun Kq Qtq hk => t_248 fun V2 hV2 hW2 => b_248_0 (Tr_mono _) hV2 hW2 _ _ ⟨g3, q_249r (ER_ok hE hb) (g6 h12) q2 ?_⟩)
        rw [g2]
        refine q_227s hsp.1 ?_
        rw [if_neg (by decide)]
        exact ri_i (hk _ _ hsp)
    · rw [if_neg c]
      have hb : b = 0 := by
        rcases h01 with hb | hb
        · exact hb
        · exact absurd (by unfold cnS; rw [if_neg (fun h => c h.2)]) (hS hb)
      refine x_110 (by omega) (by omega) (fun h => absurd h (by decide)) (fun _ => ?_)
      refine hQ hb _ fl_XF (fun Kq Qtq hk => t_248 fun V2 hV2 hW2 => b_248_0 (Tr_mono _) hV2 hW2 _ _ ⟨g3, ?_⟩)
      by_cases h12 : a < 1200
      · have hE1 := (ER_go hE h12 (by omega)).1
        refine q_249g (ER_goq hE) g4 (g5 h12) q2 (q_227g (ER_goq hE1) ?_)
        rw [if_pos rfl, ev, if_neg c, g2]
        refine q_231o (ER_ok hE1 hb).1 (ri_i (hk _ _ ?_))
        have hsp := SQ_bf hE1 hb (k := 2) (by decide) (QF_QA (nx_QF (M := Mq)))
        have x71 : nX_ Mx 71 = Mx 71 := nX_ne (by decide)
        refine ⟨?_, ?_, ?_, ?_, ?_⟩
        · exact ⟨by unfold bf_; rw [up_off (by decide), up_at]; decide, by unfold bf_; rw [up_off (by decide), up_off (by decide)]; exact hE1.2.2.2.2.2.2.2.1.trans hb⟩
        · unfold in9_ bf_; rw [up_off (by decide), up_off (by decide)]; exact ⟨by rw [hE1.2.2.1]; omega, by rw [hE1.2.2.1]; omega⟩
        · unfold bf_; rw [up_off (by decide), up_at, fl_4]
        · refine ⟨?_, fl_b7 (by assumption)⟩; unfold bf_; rw [up_at, fl_5]
        · exact QA_tr (QF_QA nx_QF) (QA_tr (QA_u6 (by decide)) (QA_u6 (by decide)))
      · have h12' : a = 1200 := by omega
        have hsp := SQ_bf hE hb (k := 2) (by decide) QA_rf
        refine q_249r (ER_ok hE hb) (g6 h12') q2 ?_
        rw [g2]
        refine q_227s hsp.1 ?_
        rw [if_neg (by decide)]
        exact ri_i (hk _ _ hsp)
  · rw [if_pos rfl]
    have hb : b = 0 := by
      rcases h01 with hb | hb
      · exact hb
      · exact absurd (by unfold cnS; rw [if_neg (fun h => k1 h.1)]) (hS hb)
    have hsp := SQ_bf hE hb (k := 1) (by decide) QA_rf
    refine x_109 iX ?_
    rw [if_neg (by decide), e3]
    refine hQ hb _ fl_XF (fun Kq Qtq hk => t_248 fun V2 hV2 hW2 => b_248_0 (Tr_mono _) hV2 hW2 _ _ ⟨g3, q_249w (ER_ok hE hb) g3 (by unfold KQ at g1; omega) ?_⟩)
    rw [g2]
    refine q_227s hsp.1 ?_
    rw [if_neg (by decide)]
    exact ri_i (hk _ _ hsp)
end CT
end T180_ct
section T181_wh
/-! states: WHEN -/
/-- Q: WHEN within a state's lines -/
def qWH (dq : Nat) (mask : Int) (N : mm_) (G : mm_ → Prop) (Qt : qt_) : Prop := Tr_ wd0 pg0 (dq + 17) 228 [.inr (.inr 6), .inl 9] N (ri_ fun v4 M4 => if v4 = 0 then False else Tr_ wd0 pg0 (dq + 17) 313 [.inr (.inr 6), .inl mask] M4 (rv_ G) Qt) Qt
section WH
variable {d dq : Nat} {b F F' : Int} {Mx Mq M N M1 N1 : mm_} {a a' mask k c ee i v : Int} {x1 x2 x3 : Int} {Kv G : mm_ → Prop} {Qt : qt_} {V : vv_}
theorem SS_u [Inhabited gh_] {r : Nat} (hr : r = 195 ∨ r = 196 ∨ r = 197) (h : SS b F Mx Mq a mask ee) : SS b F Mx (up_ Mq r i v) a mask ee := by
  obtain ⟨h1, ⟨s1, s2, s3⟩, hm, h4⟩ := h
  have e : ∀ r' : Nat, r' ≠ r → up_ Mq r i v r' = Mq r' := fun r' h => up_ne h
  have e6 : up_ Mq r i v 6 = Mq 6 := e 6 (by omega)
  have qb : QSb Mq (up_ Mq r i v) := ⟨fun r' hr' => e r' (fun h => hr' (by rw [h]; rcases hr with q | q | q <;> rw [q] <;> decide)), fun j _ => by rw [e6]⟩
  refine ⟨TS_c h1 XSb_rf qb (fun _ _ _ => rfl) rfl rfl rfl rfl rfl (fun j _ _ => by rw [e6]) (e _ (by omega)) (e _ (by omega)) (e _ (by omega)) (e _ (by omega)) (e _ (by omega)), ⟨s1, by rw [e6]; exact s2, by rw [e6]; exact s3⟩, hm, fun hb => ?_⟩
  obtain ⟨⟨xs, hs⟩, hl, hmb⟩ := h4 hb
  refine ⟨⟨xs, SRW_c hs rfl rfl rfl rfl rfl rfl (by rw [e6]) (by rw [e6]) (e _ (by omega)) (e _ (by omega)) (e _ (by omega)) (e _ (by omega)) (e _ (by omega)) (e _ (by omega))⟩, fun h => ?_, hmb⟩
  rw [e6, e 199 (by omega)]; rw [e6] at h; exact hl h
/-- Q's 313, once stopped -/
theorem q_313s59 [Inhabited gh_] (hV : Cl_ wd0 (Tr_ wd0 pg0 (d + 3)) V (rv_ Kv) Qt m_313) (hW : Wk_ V) (hs : sp_ N) (h : Kv N) : V 59 [rr 6, ii x1, ii x2, ii x3, none] [] N := by
  refine b_313_59 (Tr_mono _) hV hW _ _ _ _ (q_244s hs (q_227s hs ?_))
  rw [if_neg (by decide)]
  exact q_260z hs (rv_i h)
theorem q_313s27 [Inhabited gh_] (hV : Cl_ wd0 (Tr_ wd0 pg0 (d + 3)) V (rv_ Kv) Qt m_313) (hW : Wk_ V) (hs : sp_ N) (h : Kv N) : V 27 [rr 6, ii x1, ii x2, ii x3, none] [] N := by
  refine b_313_27 (Tr_mono _) hV hW _ _ _ _ (q_228s hs ?_)
  rw [if_pos rfl]
  exact q_313s59 hV hW hs h
theorem q_313s [Inhabited gh_] (hs : sp_ N) (h : Kv N) : Tr_ wd0 pg0 (d + 4) 313 [.inr (.inr 6), .inl x1] N (rv_ Kv) Qt := by
  refine t_313 fun V hV hW => b_313_0 (Tr_mono _) hV hW _ _ (q_307s hs (q_270s hs (q_227s hs ?_)))
  rw [if_neg (by decide)]
  exact q_313s27 hV hW hs h
end WH
end T181_wh
section T182_wt
/-! states: WHEN, from its semicolon on -/
def Xw_ (b : Int) (M : mm_) (k x2 x3 c : Int) : mm_ := if b = 0 then M else up_ (up_ (up_ M 139 k x2) 140 k x3) 141 k c
section WT
variable {d dq : Nat} {b F F' : Int} {Mx Mq M N M1 N1 : mm_} {a a' mask k c ee i v : Int} {x1 x2 x3 e : Int} {Kv G : mm_ → Prop} {Qt : qt_} {V : vv_}
theorem Xw_r [Inhabited gh_] {r : Nat} (h1 : r ≠ 139) (h2 : r ≠ 140) (h3 : r ≠ 141) : Xw_ b M k x2 x3 c r = M r := by
  unfold Xw_; split
  · rfl
  · rw [up_ne h3, up_ne h2, up_ne h1]
theorem SS_Xw [Inhabited gh_] (h : SS b F Mx Mq a mask ee) : SS b F (Xw_ b Mx k x2 x3 c) Mq a mask ee := by
  obtain ⟨h1, ⟨s1, s2, s3⟩, hm, h4⟩ := h
  have e : ∀ r : Nat, r ≠ 139 → r ≠ 140 → r ≠ 141 → Xw_ b Mx k x2 x3 c r = Mx r := fun r h h' h'' => Xw_r h h' h''
  have xb : XSb Mx (Xw_ b Mx k x2 x3 c) := ⟨fun r hr => e r (fun h => hr (by rw [h]; decide)) (fun h => hr (by rw [h]; decide)) (fun h => hr (by rw [h]; decide)), fun i _ => by rw [e 1 (by decide) (by decide) (by decide)], fun i _ _ => by rw [e 5 (by decide) (by decide) (by decide)]⟩
  refine ⟨TS_c h1 xb QSb_rf (fun i _ _ => by rw [e 1 (by decide) (by decide) (by decide)]) (by rw [e 5 (by decide) (by decide) (by decide)]) (e _ (by decide) (by decide) (by decide)) (e _ (by decide) (by decide) (by decide)) (e _ (by decide) (by decide) (by decide)) (e _ (by decide) (by decide) (by decide)) (fun _ _ _ => rfl) rfl rfl rfl rfl rfl, ⟨by rw [e 5 (by decide) (by decide) (by decide)]; exact s1, s2, s3⟩, hm, fun hb => ?_⟩
  obtain ⟨⟨xs, hs⟩, hl, hmb⟩ := h4 hb
  refine ⟨⟨xs, SRW_c hs (by rw [e 5 (by decide) (by decide) (by decide)]) (e _ (by decide) (by decide) (by decide)) (e _ (by decide) (by decide) (by decide)) (e _ (by decide) (by decide) (by decide)) (e _ (by decide) (by decide) (by decide)) (e _ (by decide) (by decide) (by decide)) rfl rfl rfl rfl rfl rfl rfl rfl⟩, hl, ?_⟩
  rw [e 1 (by decide) (by decide) (by decide), e 123 (by decide) (by decide) (by decide)]; exact hmb
theorem y_176t [Inhabited gh_] (h : SS b F Mx Mq a mask ee) (h29 : 2 * Mx 1 29 + 3 ≤ a) (h76 : 2 * Mq 6 76 + 3 ≤ a) (hx1 : b = 1 → 0 ≤ x1 ∧ x1 < 600) (hk : 0 ≤ k ∧ k < 1300) (hS : b = 1 → ((tS (Mx 70) 259 a).bind fun a2 => PTj (Mx 70) (LMT Mx) 12 (a2, lc_ b Mx)) ≠ none)
    (hV : Cl_ wd0 (Tr_ wd0 pg0 128) V (rv_ Kv) Qt m_176) (hW : Wk_ V)
    (hK : ∀ F' M' N' a' v kk, SS b F' (Xw_ b (Xn_ M' b kk a') x1 x2 x3 (Mx 5 3)) (Qn_ N' b kk (M' 71 a')) a' mask (ee - 1) → a + 1 ≤ a' → PRC b F F' (sX_ (nX_ Mx) (Mx 1 34)) (tM_ (up_ (nx_ Mq) 197 k (Mq 6 75)) 0 mask) M' N' (a + 1) a' 0 0 (Mq 6 76) → SEM b (sX_ (nX_ Mx) (Mx 1 34)) (tM_ (up_ (nx_ Mq) 197 k (Mq 6 75)) 0 mask) M' N' v → (v = 0 ∨ v = 1) → kk = (if v = 0 then 6 else 0) → (b = 1 → Qn_ N' b kk (M' 71 a') 6 13 = 0 → kk = 0 ∧ N' 6 13 = 0)
      → (∀ lm, LOK b lm Mx M' → ((tS (Mx 70) 259 a).bind fun a2 => PTj (Mx 70) lm 12 (a2, lc_ b Mx)) = some (a', lc_ b M'))
      → (∀ (V' : vv_) (G : mm_ → Prop) (Qtq : qt_), Cl_ wd0 (Tr_ wd0 pg0 (dq + 16)) V' (rv_ G) Qtq m_313 → Wk_ V' → G (Qn_ N' b kk (M' 71 a')) → V' 59 [rr 6, ii mask, ii k, ii e, none] [] Mq) → Kv (Xw_ b (Xn_ M' b kk a') x1 x2 x3 (Mx 5 3)))
    (hQ : b = 0 → ∀ Mx', XSb Mx Mx' → (∀ (V' : vv_) (G : mm_ → Prop) (Qtq : qt_), Cl_ wd0 (Tr_ wd0 pg0 (dq + 16)) V' (rv_ G) Qtq m_313 → Wk_ V' → (∀ M', SQb Mx' Mq M' → G M') → V' 59 [rr 6, ii mask, ii k, ii e, none] [] Mq) → Qt 8 Mx') :
    V 56 [rr 1, ii x1, ii x2, ii x3, none] [] Mx := by
  have hE := TS_E h.1
  have hT := h.1.1.1
  have ha := ER_a hE
  have h01 := bl01 hE
  have hf := h.1.2.2.2.2.2.1
  refine b_176_56 (Tr_mono _) hV hW _ _ _ _ ?_
  refine y_121 hE (by decide) (fun hb => bind_n (hS hb)) (fun k1 h12 hE1 => ?_) (fun hb k1 h12 => ?_) (fun hb k1 => ?_)
  rotate_left
  · have hsp := SQ_bf hE hb (k := 2) (by decide) QA_rf
    refine hQ hb _ (XA_XSb (XF_XA fl_XF)) (fun V' G Qtq hV' hW' hk9 => b_313_59 (Tr_mono _) hV' hW' _ _ _ _ (j_244r hT hE hb (by decide) k1 h12 (q_227s hsp.1 ?_)))
    rw [if_neg (by decide)]
    exact q_260z hsp.1 (rv_i (hk9 _ ⟨hsp.1, hsp.2.1, hsp.2.2.1, hsp.2.2.2.1, QA_QSb hsp.2.2.2.2⟩))
  · have hsp := SQ_bf hE hb (k := 1) (by decide) QA_rf
    refine hQ hb _ (XA_XSb (XF_XA fl_XF)) (fun V' G Qtq hV' hW' hk9 => b_313_59 (Tr_mono _) hV' hW' _ _ _ _ (j_244w hT hE hb (by decide) k1 (q_227s hsp.1 ?_)))
    rw [if_neg (by decide)]
    exact q_260z hsp.1 (rv_i (hk9 _ ⟨hsp.1, hsp.2.1, hsp.2.2.1, hsp.2.2.2.1, QA_QSb hsp.2.2.2.2⟩))
  have S1 := SS_u (r := 197) (i := k) (v := Mq 6 75) (.inr (.inr rfl)) (SS_go h hE1)
  have f1 : ∀ i : Int, i ≠ 3 → nX_ Mx 1 i = Mx 1 i := fun i hi => nX_1 hi
  have e53 : nX_ Mx 5 3 = Mx 5 3 := by rw [nX_ne (by decide)]
  have x70 : nX_ Mx 70 = Mx 70 := nX_ne (by decide)
  have q6 : up_ (nx_ Mq) 197 k (Mq 6 75) 6 = nx_ Mq 6 := up_ne (by decide)
  have q76 : up_ (nx_ Mq) 197 k (Mq 6 75) 6 76 = Mq 6 76 := by rw [q6, nx_6 (by decide)]
  have eN : ∀ lm j, ((tS (Mx 70) 259 a).bind fun a2 => PTj (Mx 70) lm 12 (a2, j)) = PTj (Mx 70) lm 12 (a + 1, j) := fun lm j => by rw [tS_e (show Mx 70 a = 259 from k1) h12, Option.bind_some]
  have lk := LKP_F (b := b) (nX_XF (M := Mx))
  have qsb : QSb Mq (up_ (nx_ Mq) 197 k (Mq 6 75)) := QSb_tr (QA_QSb (QF_QA nx_QF)) ⟨fun r hr => up_ne (fun h => hr (by rw [h]; decide)), fun j _ => by rw [up_ne (by decide)]⟩
  have toQ : ∀ (V' : vv_) (G : mm_ → Prop) (Qtq : qt_), Cl_ wd0 (Tr_ wd0 pg0 (dq + 16)) V' (rv_ G) Qtq m_313 → Wk_ V' → Tr_ wd0 pg0 (dq + 16) 260 [.inr (.inr 6), .inl 0, .inl mask] (up_ (nx_ Mq) 197 k (Mq 6 75)) (rv_ G) Qtq → V' 59 [rr 6, ii mask, ii k, ii e, none] [] Mq := fun V' G Qtq hV' hW' hq => b_313_59 (Tr_mono _) hV' hW' _ _ _ _ (j_244t hT hE (by decide) k1 h12 (q_227g (ER_goq hE1) (by
    rw [if_pos rfl, nx_6 (by decide)]
    exact ⟨hk, Tr_rv hq⟩)))
  refine ⟨by rw [f1 2 (by decide)]; exact h.1.1.2.1.1, ?_⟩
  rw [f1 34 (by decide)]
  refine y_trn (d := 127) (dq := dq) (st := 0) (mk := mask) S1.1 (by rw [f1 29 (by decide)]; omega) (by rw [q76]; omega) (by rw [f1 7 (by decide)]; omega) (fun hb => ?_) (.inl rfl) (fun hb => ?_) (fun F' M' N' a' v kk hTS P Sm hv hkk E3 hsy hq => ?_) (fun hb Mx' hx hq => ?_)
  · have := (h.2.2.2 hb).2.2.1.1
    constructor
    · intro e; omega
    · intro e; exact absurd rfl e
  · rw [x70, lk.2, lk.1.2.2.2 hb, ← eN]; exact hS hb
  · have S4 := SS_t S1 hTS P
    have q := P
    rw [q76] at q
    have hE4 := TS_E S4.1
    have aa : a + 1 ≤ a' := P.2.2.2.2.1.1
    have fin := hK F' M' N' a' v kk (SS_Xw S4) aa q Sm hv hkk E3 (fun lm hlm => ?_) (fun V' G Qtq hV' hW' hg => toQ V' G Qtq hV' hW' (hq _ _ hg))
    · intro _
      have m8 : Xn_ M' b kk a' 1 8 = b := hE4.2.2.2.2.2.2.1
      unfold Xw_ at fin
      rcases h01 with hb | hb
      · rw [if_pos (by omega)]; rw [if_pos hb] at fin; exact rv_i fin
      · rw [if_neg (by omega), e53]; rw [if_neg (by omega)] at fin
        have v2 := hTS.1.2.1.1
        exact ⟨v2, hx1 hb, v2, hx1 hb, v2, hx1 hb, rv_i fin⟩
    · have l1 := (LOK_s lk.1 (LKP_tr (LKP_X (sX_r (by decide) (by decide) (by decide) (by decide) (by decide)) (sX_r (by decide) (by decide) (by decide) (by decide) (by decide)) (sX_1 (by decide)) (sX_1 (by decide))).1 (LKP_P P)) hlm).2
      have e := hsy lm l1
      rw [x70, lk.2] at e
      rw [eN]; exact e
  · exact hQ hb Mx' (XSb_tr (XA_XSb (XF_XA nX_XF)) hx) (fun V' G Qtq hV' hW' hk9 => toQ V' G Qtq hV' hW' (hq _ _ fun M' p1 p2 p3 p4 p5 => hk9 _ ⟨p1, p2, p3, p4, QSb_tr qsb p5⟩))
end WT
end T182_wt

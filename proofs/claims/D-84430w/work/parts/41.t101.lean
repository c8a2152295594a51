section T101_ac
/-! acts: what an act of X and an op of Q have to do with one another -/
def qcL : List Nat := [6, 203, 204, 205, 206, 207, 208, 209, 210, 227, 228, 229, 230, 231, 232, 233, 234]
def qcI : List Int := [12, 13, 14, 15, 75, 104, 107, 108, 109, 112, 116, 118]
def xcL : List Nat := [1, 5, 142]
def xcI : List Int := [3, 4, 5, 6, 7]
/-- what a single act leaves of X, of Q -/
def XC (M M' : mm_) : Prop := Fr_ xcL M M' ∧ (∀ i : Int, i ∉ xcI → M' 1 i = M 1 i) ∧ (∀ i : Int, i ≠ 3 → M' 5 i = M 5 i)
def QC (M M' : mm_) : Prop := Fr_ qcL M M' ∧ ∀ i : Int, i ∉ qcI → M' 6 i = M 6 i
theorem XC_rf [Inhabited gh_] {M : mm_} : XC M M := ⟨Fr_rf, fun _ _ => rfl, fun _ _ => rfl⟩
theorem XC_tr [Inhabited gh_] {M M1 M2 : mm_} (h1 : XC M M1) (h2 : XC M1 M2) : XC M M2 := ⟨Fr_tr h1.1 h2.1, fun i a => (h2.2.1 i a).trans (h1.2.1 i a), fun i a => (h2.2.2 i a).trans (h1.2.2 i a)⟩
theorem QC_rf [Inhabited gh_] {M : mm_} : QC M M := ⟨Fr_rf, fun _ _ => rfl⟩
theorem QC_tr [Inhabited gh_] {M M1 M2 : mm_} (h1 : QC M M1) (h2 : QC M1 M2) : QC M M2 := ⟨Fr_tr h1.1 h2.1, fun i a => (h2.2 i a).trans (h1.2 i a)⟩
theorem XF_XC [Inhabited gh_] {M M' : mm_} (h : XF M M') : XC M M' := ⟨Fr_sub h.1 (by decide), fun i hi => h.2.1 i (nm_i hi (by decide)) (nm_i hi (by decide)) (nm_i hi (by decide)) (nm_i hi (by decide)) (nm_i hi (by decide)), h.2.2⟩
theorem QG_QC [Inhabited gh_] {M M' : mm_} (h : QG M M') : QC M M' := ⟨Fr_sub h.1 (by decide), fun i hi => h.2 i (nm_i hi (by decide)) (nm_i hi (by decide)) (nm_i hi (by decide)) (nm_i hi (by decide)) (nm_i hi (by decide)) (nm_i hi (by decide)) (nm_i hi (by decide)) (nm_i hi (by decide)) (nm_i hi (by decide)) (nm_i hi (by decide)) (nm_i hi (by decide))⟩
theorem QF_QC [Inhabited gh_] {M M' : mm_} (h : QF M M') : QC M M' := QG_QC (QG_QF h)
theorem QC_u6 [Inhabited gh_] {M : mm_} {i v : Int} (h : i ∈ qcI) : QC M (up_ M 6 i v) := ⟨Fr_up Fr_rf (by decide), fun j hj => by rw [up_off (nm_i hj h)]⟩
theorem QC_ur [Inhabited gh_] {M : mm_} {r : Nat} {i v : Int} (h : r ∈ qcL) (h6 : r ≠ 6) : QC M (up_ M r i v) := ⟨Fr_up Fr_rf h, fun j hj => by rw [up_ne (fun e => h6 e.symm)]⟩
theorem XC_u1 [Inhabited gh_] {M : mm_} {i v : Int} (h : i ∈ xcI) : XC M (up_ M 1 i v) := ⟨Fr_up Fr_rf (by decide), fun j hj => by rw [up_off (nm_i hj h)], fun i _ => by rw [up_ne (by decide)]⟩
theorem XC_XA [Inhabited gh_] {M M' : mm_} (h : XC M M') : XA M M' := ⟨Fr_sub h.1 (by decide), fun i hi => h.2.1 i (fun e => hi (by revert e; unfold xcI xaI; simp only [List.mem_cons, List.not_mem_nil, or_false]; omega)), h.2.2⟩
theorem QC_QA [Inhabited gh_] {M M' : mm_} (h : QC M M') : QA M M' := ⟨Fr_sub h.1 (by decide), fun i hi => h.2 i (fun e => hi (by revert e; unfold qcI qaI; simp only [List.mem_cons, List.not_mem_nil, or_false]; omega))⟩
theorem QC_tb [Inhabited gh_] {M M' : mm_} (h : QC M M') : tb_ M M' := ⟨h.1 171 (by decide), h.1 173 (by decide), h.1 182 (by decide), h.1 183 (by decide), h.1 184 (by decide)⟩
/-- emit -/
def em_ (M : mm_) (w p : Int) : mm_ := up_ (up_ (up_ (up_ (up_ (up_ (up_ (up_ M 203 (M 6 75) w) 204 (M 6 75) p) 205 (M 6 75) (-1)) 206 (M 6 75) (-1)) 207 (M 6 75) (-1)) 208 (M 6 75) (-1)) 210 (M 6 75) 0) 6 75 (M 6 75 + 1)
section EM
variable {d : Nat} {M : mm_} {w p : Int} {K : Int → mm_ → Prop} {Qt : qt_}
theorem q_266 [Inhabited gh_] (h0 : 0 ≤ M 6 75) (h1 : M 6 75 < 1300) (h : K (M 6 75) (em_ M w p)) : Tr_ wd0 pg0 (d + 1) 266 [.inr (.inr 6), .inl w, .inl p] M (ri_ K) Qt := t_266 fun V hV hW => b_266_0 (Tr_mono _) hV hW w p M (by
  rw [w32_id (by omega) (by omega)]
  exact ⟨⟨h0, h1⟩, ⟨h0, h1⟩, ⟨h0, h1⟩, ⟨h0, h1⟩, ⟨h0, h1⟩, ⟨h0, h1⟩, ⟨h0, h1⟩, ri_i h⟩)
theorem em_QC [Inhabited gh_] : QC M (em_ M w p) := by
  unfold em_
  exact QC_tr (QC_tr (QC_tr (QC_tr (QC_tr (QC_tr (QC_tr (QC_ur (by decide) (by decide)) (QC_ur (by decide) (by decide))) (QC_ur (by decide) (by decide))) (QC_ur (by decide) (by decide))) (QC_ur (by decide) (by decide))) (QC_ur (by decide) (by decide))) (QC_ur (by decide) (by decide))) (QC_u6 (by decide))
theorem em_6 [Inhabited gh_] {i : Int} (h : i ≠ 75) : em_ M w p 6 i = M 6 i := by unfold em_; rw [up_off h, up_ne (by decide), up_ne (by decide), up_ne (by decide), up_ne (by decide), up_ne (by decide), up_ne (by decide), up_ne (by decide)]
theorem em_75 [Inhabited gh_] : em_ M w p 6 75 = M 6 75 + 1 := by unfold em_; rw [up_at]
theorem em_r [Inhabited gh_] {r : Nat} (h : r < 203 ∨ 210 < r) (h6 : r ≠ 6) : em_ M w p r = M r := by unfold em_; rw [up_ne h6, up_ne (by omega), up_ne (by omega), up_ne (by omega), up_ne (by omega), up_ne (by omega), up_ne (by omega), up_ne (by omega)]
theorem em_209 [Inhabited gh_] : em_ M w p 209 = M 209 := by unfold em_; rw [up_ne (by decide), up_ne (by decide), up_ne (by decide), up_ne (by decide), up_ne (by decide), up_ne (by decide), up_ne (by decide), up_ne (by decide)]
theorem up_of2 [Inhabited gh_] {M : mm_} {r r' : Nat} {i j v : Int} (h : i ≠ j) : up_ M r' j v r i = M r i := by
  by_cases c : r = r'
  · rw [c, up_off h]
  · rw [up_ne c]
theorem em_o [Inhabited gh_] {r : Nat} {i : Int} (h6 : r ≠ 6) (h : i ≠ M 6 75) : em_ M w p r i = M r i := by unfold em_; rw [up_ne h6, up_of2 h, up_of2 h, up_of2 h, up_of2 h, up_of2 h, up_of2 h, up_of2 h]
theorem em_203 [Inhabited gh_] : em_ M w p 203 (M 6 75) = w := by unfold em_; rw [up_ne (by decide), up_ne (by decide), up_ne (by decide), up_ne (by decide), up_ne (by decide), up_ne (by decide), up_ne (by decide), up_at]
theorem em_204 [Inhabited gh_] : em_ M w p 204 (M 6 75) = p := by unfold em_; rw [up_ne (by decide), up_ne (by decide), up_ne (by decide), up_ne (by decide), up_ne (by decide), up_ne (by decide), up_at]
theorem em_205 [Inhabited gh_] : em_ M w p 205 (M 6 75) = -1 := by unfold em_; rw [up_ne (by decide), up_ne (by decide), up_ne (by decide), up_ne (by decide), up_ne (by decide), up_at]
theorem em_206 [Inhabited gh_] : em_ M w p 206 (M 6 75) = -1 := by unfold em_; rw [up_ne (by decide), up_ne (by decide), up_ne (by decide), up_ne (by decide), up_at]
theorem em_207 [Inhabited gh_] : em_ M w p 207 (M 6 75) = -1 := by unfold em_; rw [up_ne (by decide), up_ne (by decide), up_ne (by decide), up_at]
theorem em_208 [Inhabited gh_] : em_ M w p 208 (M 6 75) = -1 := by unfold em_; rw [up_ne (by decide), up_ne (by decide), up_at]
theorem em_210 [Inhabited gh_] : em_ M w p 210 (M 6 75) = 0 := by unfold em_; rw [up_ne (by decide), up_at]
end EM
/-- so many values of an op, their sorts told by σ -/
def VAL (Mx Mq : mm_) (T fe : Int) (σ : Int → Int) (k : Int) : Nat → Int → Int → Prop
  | 0, c, c' => c' = c
  | n + 1, c, c' => ∃ c1, VAL Mx Mq T fe σ k n c c1 ∧ EXP Mx Mq T c1 c' (Mq 209 (3 * k + n)) fe (σ n)
/-- an op k of type T and X's steps from c up to c' -/
def OPC (Mx Mq : mm_) (T k c c' fe : Int) : Prop :=
  (Mq 203 k = 1 ∧ (8 * T ≤ Mq 205 k ∧ Mq 205 k < 8 * T + Mq 171 T) ∧ ∃ c1, Mx 142 (c1 + 1) = Mq 184 (Mq 205 k) ∧ c' = c1 + 2 ∧
    ((Mq 206 k = -1 ∧ Mq 183 (Mq 205 k) = 0 ∧ EXP Mx Mq T c c1 (Mq 207 k) fe (Mq 182 (Mq 205 k)) ∧ Mx 142 c1 = 31)
     ∨ (∃ c0, 0 < Mq 183 (Mq 205 k) ∧ EXP Mx Mq T c c0 (Mq 206 k) fe 1 ∧ Mx 142 c0 = 45 ∧ Mx 142 (c0 + 1) = Mq 183 (Mq 205 k) ∧ EXP Mx Mq T (c0 + 2) c1 (Mq 207 k) fe (Mq 182 (Mq 205 k)) ∧ Mx 142 c1 = 32)))
  ∨ (Mq 203 k = 2 ∧ (0 ≤ Mq 205 k ∧ Mq 205 k < Mq 6 17) ∧ 0 ≤ Mq 210 k ∧ Mq 210 k ≤ 3 ∧ Mq 210 k = Mq 156 (Mq 205 k) ∧ ∃ c1 c2 m, VAL Mx Mq T fe (fun i => Mq 157 (3 * Mq 205 k + i)) k (Mq 210 k).toNat c c1
    ∧ ((m = 0 ∧ c2 = c1 ∧ Mq 206 k = -1 ∧ Mq 207 k = -1) ∨ (m = 1 ∧ Mq 207 k = -1 ∧ EXP Mx Mq T c1 c2 (Mq 206 k) fe 3) ∨ (m = 2 ∧ c2 = c1 ∧ Mq 206 k = -1 ∧ 0 ≤ Mq 207 k ∧ Mq 207 k < Mq 6 18))
    ∧ Mx 142 c2 = 33 ∧ Mx 142 (c2 + 1) = Mq 205 k ∧ Mx 142 (c2 + 2) = Mq 210 k ∧ Mx 142 (c2 + 3) = m ∧ Mx 142 (c2 + 4) = Mq 207 k ∧ c' = c2 + 5)
  ∨ (Mq 203 k = 3 ∧ (0 ≤ Mq 205 k ∧ Mq 205 k < Mq 173 T) ∧ ∃ c1, EXP Mx Mq T c c1 (Mq 206 k) fe 1 ∧ Mx 142 c1 = 34 ∧ Mx 142 (c1 + 1) = Mq 205 k ∧ c' = c1 + 2)
  ∨ (Mq 203 k = 4 ∧ (0 ≤ Mq 205 k ∧ Mq 205 k < Mq 173 T) ∧ Mx 142 c = 35 ∧ Mx 142 (c + 1) = Mq 205 k ∧ c' = c + 2)
  ∨ (Mq 203 k = 5 ∧ (0 ≤ Mq 205 k ∧ Mq 205 k < Mq 6 19) ∧ 0 ≤ Mq 210 k ∧ Mq 210 k ≤ 3 ∧ Mq 210 k = Mq 170 (Mq 205 k) ∧ ∃ c1, VAL Mx Mq T fe (fun i => Mq 182 (8 * Mq 205 k + i)) k (Mq 210 k).toNat c c1 ∧ Mx 142 c1 = 36 ∧ Mx 142 (c1 + 1) = Mq 205 k ∧ Mx 142 (c1 + 2) = Mq 210 k ∧ c' = c1 + 3)
  ∨ (Mq 203 k = 8 ∧ ((Mq 205 k = -1 ∧ Mx 142 c = 40 ∧ c' = c + 1) ∨ (0 ≤ Mq 205 k ∧ Mq 205 k < Mq 174 T ∧ Mx 142 c = 39 ∧ Mx 142 (c + 1) = Mq 205 k ∧ c' = c + 2)))
  ∨ (Mq 203 k = 9 ∧ Mx 142 c = 41 ∧ c' = c + 1)
  ∨ (Mq 203 k = 10 ∧ (0 ≤ Mq 205 k ∧ Mq 205 k < Mq 175 T) ∧ Mx 142 c = 42 ∧ Mx 142 (c + 1) = 10 * T + Mq 205 k ∧ c' = c + 2)
/-- X and Q stand before an act -/
def TA [Inhabited gh_] (b F : Int) (Mx Mq : mm_) (a o : Int) : Prop := Tks Mx Mq ∧ VT Mx Mq ∧ ER b F Mx Mq a o ∧ (0 ≤ Mq 6 75 ∧ Mq 6 75 ≤ a) ∧ (0 ≤ Mq 6 104 ∧ Mq 6 104 ≤ 2 * a) ∧ Mx 5 3 ≤ 9 * a + 500
/-- both are through an act, with one op -/
def AR [Inhabited gh_] (b F : Int) (Mx Mq Mx' Mq' : mm_) (a a' o w v : Int) : Prop :=
  a + 2 ≤ a' ∧ XC Mx Mx' ∧ QC Mq Mq' ∧ ER b F Mx' Mq' a' o ∧ Mq' 6 75 = Mq 6 75 + 1 ∧ (Mq 6 104 ≤ Mq' 6 104 ∧ Mq' 6 104 + 2 * a ≤ Mq 6 104 + 2 * a') ∧ (∀ i, 0 ≤ i → i < Mq 6 104 → Mq' 227 i = Mq 227 i ∧ Mq' 228 i = Mq 228 i)
  ∧ (Mx 5 3 ≤ Mx' 5 3 ∧ Mx' 5 3 + 9 * a + 2 ≤ Mx 5 3 + 9 * a' ∧ (b = 0 → Mx' 5 3 = Mx 5 3)) ∧ (∀ i, 0 ≤ i → i < Mx 5 3 → Mx' 142 i = Mx 142 i)
  ∧ (∀ r i, r ∈ [203, 204, 205, 206, 207, 208, 210] → 0 ≤ i → i < Mq 6 75 → Mq' r i = Mq r i) ∧ (∀ i, 0 ≤ i → i < 3 * Mq 6 75 → Mq' 209 i = Mq 209 i)
  ∧ (Mx' 1 7 - 8 * a' + 3 ≤ Mx 1 7 - 8 * a ∧ Mx 1 7 ≤ Mx' 1 7) ∧ (Mq' 204 (Mq 6 75) = Mx 71 a ∧ Mq' 203 (Mq 6 75) = w ∧ (w = 2 ∨ w = 5 → Mq' 205 (Mq 6 75) = v))
  ∧ (b = 1 → Mq' 6 13 = 0 → Mq 6 13 = 0 ∧ OPC Mx' Mq' (Mq 6 61) (Mq 6 75) (Mx 5 3) (Mx' 5 3) (Mq' 6 104))
/-- Q has stopped with X's fault -/
def SQ [Inhabited gh_] (Mx' M M' : mm_) : Prop := sp_ M' ∧ in9_ M' ∧ M' 6 13 = Mx' 1 4 ∧ P14 Mx' M' ∧ QA M M'
theorem SQ_bf [Inhabited gh_] {b F : Int} {Mx Mq M : mm_} {a o k : Int} (hE : ER b F Mx Mq a o) (hb : b = 0) (hk : 0 < k) (hq : QA M Mq) : SQ (flX_ Mx k a) M (bf_ Mq k (Mx 71 a)) := by
  have := sp_bf (p := Mx 71 a) hE hb hk
  exact ⟨this.1, this.2, by rw [bf_13, fl_4], ⟨by rw [bf_14, fl_5], fl_b7 hE⟩, QA_tr hq (QF_QA bf_QF)⟩
end T101_ac
section T102_am
/-! within an act: what X and Q have done so far -/
def opL : List Nat := [203, 204, 205, 206, 207, 208, 210]
/-- from a to a1: s steps of X outside of e's, room for z notes -/
def AM [Inhabited gh_] (b F : Int) (Mx Mq Mx1 Mq1 : mm_) (a a1 o1 s z : Int) : Prop :=
  TA b F Mx Mq a (Mx 1 6) ∧ a ≤ a1 ∧ XC Mx Mx1 ∧ QC Mq Mq1 ∧ ER b F Mx1 Mq1 a1 o1 ∧ (Mq 6 104 ≤ Mq1 6 104 ∧ Mq1 6 104 + 2 * a ≤ Mq 6 104 + 2 * a1) ∧ (∀ i, 0 ≤ i → i < Mq 6 104 → Mq1 227 i = Mq 227 i ∧ Mq1 228 i = Mq 228 i)
  ∧ (Mx 5 3 ≤ Mx1 5 3 ∧ Mx1 5 3 ≤ Mx 5 3 + 3 * (a1 - a) + s ∧ (b = 0 → Mx1 5 3 = Mx 5 3)) ∧ (∀ i, 0 ≤ i → i < Mx 5 3 → Mx1 142 i = Mx 142 i)
  ∧ (∀ r i, r ∈ opL → 0 ≤ i → i < Mq 6 75 → Mq1 r i = Mq r i) ∧ (∀ i, 0 ≤ i → i < 3 * Mq 6 75 → Mq1 209 i = Mq 209 i)
  ∧ (Mx1 1 7 + z ≤ Mx 1 7 + 8 * (a1 - a) ∧ Mx 1 7 ≤ Mx1 1 7) ∧ (b = 1 → Mq1 6 13 = 0 → Mq 6 13 = 0)
section AM
variable {dq n : Nat} {b F : Int} {Mx Mq Mx1 Mq1 Mx2 Mq2 : mm_} {a a1 o o1 s z : Int} {K : Int → mm_ → Prop} {Kv : mm_ → Prop} {Qt : qt_}
theorem AM_rf [Inhabited gh_] (h : TA b F Mx Mq a o) : AM b F Mx Mq Mx Mq a a o 0 0 := by
  have hE := h.2.2.1
  have e := hE.2.2.2.1
  subst e
  exact ⟨h, by omega, XC_rf, QC_rf, hE, ⟨by omega, by omega⟩, fun _ _ _ => ⟨rfl, rfl⟩, ⟨by omega, by omega, fun _ => rfl⟩, fun _ _ _ => rfl, fun _ _ _ _ _ => rfl, fun _ _ _ => rfl, ⟨by omega, by omega⟩, fun _ h => h⟩
theorem AM_E [Inhabited gh_] (h : AM b F Mx Mq Mx1 Mq1 a a1 o1 s z) : ER b F Mx1 Mq1 a1 o1 := h.2.2.2.2.1
theorem AM_X [Inhabited gh_] (h : AM b F Mx Mq Mx1 Mq1 a a1 o1 s z) : XC Mx Mx1 := h.2.2.1
theorem AM_Q [Inhabited gh_] (h : AM b F Mx Mq Mx1 Mq1 a a1 o1 s z) : QC Mq Mq1 := h.2.2.2.1
theorem AM_T [Inhabited gh_] (h : AM b F Mx Mq Mx1 Mq1 a a1 o1 s z) : Tks Mx1 Mq1 := Tks_a (XC_XA h.2.2.1) (QC_QA h.2.2.2.1) h.1.1
theorem AM_V [Inhabited gh_] (h : AM b F Mx Mq Mx1 Mq1 a a1 o1 s z) : VT Mx1 Mq1 := VT_a (XC_XA h.2.2.1) (QC_QA h.2.2.2.1) h.1.2.1
theorem AM_70 [Inhabited gh_] (h : AM b F Mx Mq Mx1 Mq1 a a1 o1 s z) : Mx1 70 = Mx 70 := h.2.2.1.1 70 (by decide)
theorem AM_71 [Inhabited gh_] (h : AM b F Mx Mq Mx1 Mq1 a a1 o1 s z) : Mx1 71 = Mx 71 := h.2.2.1.1 71 (by decide)
theorem AM_go [Inhabited gh_] (h : AM b F Mx Mq Mx1 Mq1 a a1 o1 s z) (hE : ER b F (nX_ Mx1) (nx_ Mq1) (a1 + 1) o1) : AM b F Mx Mq (nX_ Mx1) (nx_ Mq1) a (a1 + 1) o1 (s - 3) (z + 8) := by
  obtain ⟨h1, h2, h3, h4, h5, h6, h7, h8, h9, h10, h11, h12, h13⟩ := h
  have e5 : nX_ Mx1 5 3 = Mx1 5 3 := by rw [nX_ne (by decide)]
  have e7 : nX_ Mx1 1 7 = Mx1 1 7 := nX_1 (by decide)
  have q104 : nx_ Mq1 6 104 = Mq1 6 104 := nx_6 (by decide)
  have q13 : nx_ Mq1 6 13 = Mq1 6 13 := nx_6 (by decide)
  refine ⟨h1, by omega, XC_tr h3 (XF_XC nX_XF), QC_tr h4 (QF_QC nx_QF), hE, by rw [q104]; omega, fun i x y => by rw [nx_ne (by decide), nx_ne (by decide)]; exact h7 i x y, by rw [e5]; exact ⟨h8.1, by omega, h8.2.2⟩, fun i x y => by rw [nX_ne (by decide)]; exact h9 i x y, fun r i hr x y => ?_, fun i x y => by rw [nx_ne (by decide)]; exact h11 i x y, by rw [e7]; omega, by rw [q13]; exact h13⟩
  rw [nx_ne (fun e => absurd hr (by rw [e]; decide))]; exact h10 r i hr x y
/-- a note of both -/
theorem ER_m [Inhabited gh_] {k : Int} (h : ER b F Mx Mq a o) {tk : Int} (hk : k = 0 ∨ (3 ≤ k ∧ k ≤ 6)) (hp0 : 0 ≤ Mx 71 tk ∧ Mx 71 tk ≤ 5000) (hf : Mx 1 7 + 1 + 8 * (1201 - a) ≤ 1000001000 - (gg_ : Int)) : ER b F (Xn_ Mx b k tk) (Qn_ Mq b k (Mx 71 tk)) a o ∧ (Mx 1 7 ≤ Xn_ Mx b k tk 1 7 ∧ Xn_ Mx b k tk 1 7 ≤ Mx 1 7 + 1) ∧ (b = 1 → Qn_ Mq b k (Mx 71 tk) 6 13 = 0 → k = 0 ∧ Mq 6 13 = 0) := by
  unfold Xn_ Qn_
  by_cases c : b = 0 ∨ k = 0
  · rw [if_pos c, if_pos c]
    exact ⟨h, ⟨by omega, by omega⟩, fun h1 h2 => ⟨by omega, h2⟩⟩
  · rw [if_neg c, if_neg c]
    have hb : b = 1 := by have := h.2.2.2.2.2.2.2.2.1; omega
    have := ER_nt (k := k) (t := tk) (p := Mx 71 tk) h hb (by omega) rfl hp0 hf
    refine ⟨this.1, by rw [nt1_7]; omega, fun _ h2 => ?_⟩
    have h3 := this.2
    unfold kk_ at h3
    rw [if_pos h2] at h3
    omega
theorem AM_m [Inhabited gh_] {k tk : Int} (h : AM b F Mx Mq Mx1 Mq1 a a1 o1 s z) (hk : k = 0 ∨ (3 ≤ k ∧ k ≤ 6)) (hg : gd_ Mx tk) (hz : 1 ≤ z) : AM b F Mx Mq (Xn_ Mx1 b k tk) (Qn_ Mq1 b k (Mx 71 tk)) a a1 o1 s (z - 1) ∧ (b = 1 → Qn_ Mq1 b k (Mx 71 tk) 6 13 = 0 → k = 0) := by
  have h71 := AM_71 h
  have hT := h.1.1
  obtain ⟨h1, h2, h3, h4, h5, h6, h7, h8, h9, h10, h11, h12, h13⟩ := h
  have hp := tk_p hT hg
  have b0 := h1.2.2.1.2.2.2.2.2.2.2.2.2.2.2.2.1
  have e := ER_m (k := k) (tk := tk) h5 hk (by rw [h71]; exact hp) (by omega)
  rw [h71] at e
  obtain ⟨e1, e2, e3⟩ := e
  refine ⟨⟨h1, h2, XC_tr h3 (XF_XC Xn_XF), QC_tr h4 (QF_QC Qn_QF), e1, by rw [Qn_6 (by decide) (by decide)]; exact h6, fun i x y => by rw [Qn_r (by decide), Qn_r (by decide)]; exact h7 i x y, by rw [Xn_r (by decide)]; exact h8, fun i x y => by rw [Xn_r (by decide)]; exact h9 i x y, fun r i hr x y => ?_, fun i x y => by rw [Qn_r (by decide)]; exact h11 i x y, by omega, fun hb hz => h13 hb (e3 hb hz).2⟩, fun hb hz => (e3 hb hz).1⟩
  rw [Qn_r (fun e => absurd hr (by rw [e]; decide))]; exact h10 r i hr x y
/-- an e -/
theorem AM_w [Inhabited gh_] {a2 w : Int} (h : AM b F Mx Mq Mx1 Mq1 a a1 o1 s z) (hw : WR b F Mx1 Mq1 Mx2 Mq2 a1 a2 o1 w) : AM b F Mx Mq Mx2 Mq2 a a2 o1 s (z + 3) := by
  obtain ⟨h1, h2, h3, h4, h5, h6, h7, h8, h9, h10, h11, h12, h13⟩ := h
  obtain ⟨w1, w2, w3, w4, w5, w6, w7, w8, w9, w10⟩ := hw
  refine ⟨h1, by omega, XC_tr h3 (XF_XC w2), QC_tr h4 (QG_QC w3), w4, by omega, fun i x y => ?_, ⟨by omega, by omega, fun hb => (w7.2.2 hb).trans (h8.2.2 hb)⟩, fun i x y => (w8 i x (by omega)).trans (h9 i x y), fun r i hr x y => ?_, fun i x y => by rw [w3.1 209 (by decide)]; exact h11 i x y, by omega, fun hb hz => h13 hb (w10 hb hz).1⟩
  · have e1 := w6 i x (by omega)
    have e2 := h7 i x y
    exact ⟨e1.1.trans e2.1, e1.2.trans e2.2⟩
  · rw [w3.1 r (fun e => absurd hr (by revert e; unfold opL; simp only [List.mem_cons, List.not_mem_nil, or_false]; omega))]; exact h10 r i hr x y
/-- steps that X puts, the latest first -/
def PXL (b : Int) (M Mp : mm_) (y : List Int) : Prop := XF M Mp ∧ Mp 1 = M 1 ∧ (b = 0 → Mp = M) ∧ (b = 1 → Mp 5 3 = M 5 3 + y.length ∧ stX Mp (M 5 3) y) ∧ (∀ i, i < M 5 3 → Mp 142 i = M 142 i) ∧ M 5 3 ≤ Mp 5 3 ∧ Mp 5 3 ≤ M 5 3 + y.length
theorem PXL_0 [Inhabited gh_] {M : mm_} : PXL b M M [] := ⟨XF_rf, rfl, fun _ => rfl, fun _ => ⟨by simp only [List.length_nil]; omega, trivial⟩, fun _ _ => rfl, by omega, by simp only [List.length_nil]; omega⟩
theorem PXL_1 [Inhabited gh_] {M Mp : mm_} {y : List Int} {v : Int} (h8 : M 1 8 = b) (h01 : b = 0 ∨ b = 1) (h : PXL b M Mp y) : PXL b M (pX_ Mp v) (v :: y) := by
  obtain ⟨h1, h2, h3, h4, h5, h6, h7⟩ := h
  have e8 : Mp 1 8 = b := by rw [h2]; exact h8
  rcases h01 with hb | hb
  · rw [pX_0 (by rw [e8]; exact hb)]
    exact ⟨h1, h2, h3, fun h => by omega, h5, h6, by simp only [List.length_cons]; omega⟩
  · have e := h4 hb
    have p53 : pX_ Mp v 5 3 = Mp 5 3 + 1 := by unfold pX_; rw [if_neg (by omega), up_at]
    have p142 : pX_ Mp v 142 (Mp 5 3) = v := by unfold pX_; rw [if_neg (by omega), up_ne (by decide), up_at]
    have p142' : ∀ i, i < Mp 5 3 → pX_ Mp v 142 i = Mp 142 i := fun i hi => by unfold pX_; rw [if_neg (by omega), up_ne (by decide), up_off (by omega)]
    refine ⟨XF_tr h1 pX_XF, by rw [pX_1]; exact h2, fun h => by omega, fun _ => ⟨by simp only [List.length_cons]; omega, ?_, ?_⟩, fun i hi => (p142' i (by omega)).trans (h5 i hi), by omega, by simp only [List.length_cons]; omega⟩
    · rw [← e.1]; exact p142
    · exact stX_c _ (fun i _ hi => p142' i (by omega)) e.2
theorem AM_p [Inhabited gh_] {y : List Int} (h : AM b F Mx Mq Mx1 Mq1 a a1 o1 s z) (hp : PXL b Mx1 Mx2 y) (hs : s + y.length ≤ 400) : AM b F Mx Mq Mx2 Mq1 a a1 o1 (s + y.length) z := by
  obtain ⟨h1, h2, h3, h4, h5, h6, h7, h8, h9, h10, h11, h12, h13⟩ := h
  obtain ⟨p1, p2, p3, p4, p5, p6, p7⟩ := hp
  have b53 := h1.2.2.2.2.2
  refine ⟨h1, h2, XC_tr h3 (XF_XC p1), h4, ?_, h6, h7, ⟨by omega, by omega, fun hb => by rw [p3 hb]; exact h8.2.2 hb⟩, fun i x y => (p5 i (by omega)).trans (h9 i x y), h10, h11, by rw [p2]; exact h12, h13⟩
  obtain ⟨e1, e2, e3, e4, e5, e6, e7, e8, e9, e10, e11, e12, e13, e14, e15⟩ := h5
  refine ⟨gd_c (XF_70 p1 (by decide) (by decide) (by decide)) e1, by rw [p2]; exact e2, e3, by rw [p2]; exact e4, e5, e6, by rw [p2]; exact e7, e8, e9, e10, ?_, by rw [p2]; exact e12, by rw [p2]; exact e13, by omega, by omega⟩
  unfold NR; rw [p2]; exact e11
/-- Q alone: ops from the act's on -/
theorem AM_q [Inhabited gh_] (h : AM b F Mx Mq Mx1 Mq1 a a1 o1 s z) (hq : QC Mq1 Mq2) (h6 : ∀ i : Int, i ≠ 75 → Mq2 6 i = Mq1 6 i) (hF : Mq2 227 = Mq1 227 ∧ Mq2 228 = Mq1 228) (ho : ∀ r i, r ∈ opL → 0 ≤ i → i < Mq 6 75 → Mq2 r i = Mq1 r i) (h9 : ∀ i, 0 ≤ i → i < 3 * Mq 6 75 → Mq2 209 i = Mq1 209 i) : AM b F Mx Mq Mx1 Mq2 a a1 o1 s z := by
  obtain ⟨g1, g2, g3, g4, g5, g6, g7, g8, g9, g10, g11, g12, g13⟩ := h
  refine ⟨g1, g2, g3, QC_tr g4 hq, ER_Q g5 (h6 _ (by decide)) (h6 _ (by decide)) (h6 _ (by decide)) (h6 _ (by decide)) (h6 _ (by decide)), by rw [h6 104 (by decide)]; exact g6, fun i x y => by rw [hF.1, hF.2]; exact g7 i x y, g8, g9, fun r i hr x y => (ho r i hr x y).trans (g10 r i hr x y), fun i x y => (h9 i x y).trans (g11 i x y), g12, by rw [h6 13 (by decide)]; exact g13⟩
theorem AM_em [Inhabited gh_] {w p : Int} (h : AM b F Mx Mq Mx1 Mq1 a a1 o1 s z) (h75 : Mq1 6 75 = Mq 6 75) : AM b F Mx Mq Mx1 (em_ Mq1 w p) a a1 o1 s z := by
  have hc := h.1.2.2.2.1
  refine AM_q h em_QC (fun i hi => em_6 hi) ⟨em_r (.inr (by decide)) (by decide), em_r (.inr (by decide)) (by decide)⟩ (fun r i hr x y => em_o (fun e => absurd hr (by rw [e]; decide)) (by omega)) (fun i x y => by rw [em_209])
theorem AM_up [Inhabited gh_] {r : Nat} {v i : Int} (h : AM b F Mx Mq Mx1 Mq1 a a1 o1 s z) (hr : r ∈ opL) (hi : i = Mq 6 75) : AM b F Mx Mq Mx1 (up_ Mq1 r i v) a a1 o1 s z := by
  have h6 : (6 : Nat) ≠ r := fun e => absurd hr (by rw [← e]; decide)
  have hL : r ∈ qcL := by revert hr; unfold opL qcL; simp only [List.mem_cons, List.not_mem_nil, or_false]; omega
  have hn : ∀ x ∈ ([227, 228, 209] : List Nat), x ≠ r := by
    intro x hx e; rw [← e] at hr; revert hr hx; unfold opL; simp only [List.mem_cons, List.not_mem_nil, or_false]; omega
  refine AM_q h (QC_ur hL (fun e => h6 e.symm)) (fun j _ => by rw [up_ne h6]) ⟨up_ne (hn _ (by decide)), up_ne (hn _ (by decide))⟩ (fun r' j _ x y => up_of2 (by omega)) (fun j _ _ => by rw [up_ne (hn _ (by decide))])
end AM
end T102_am
section T103_as
/-! set and reset -/
section AS
variable {d dq n : Nat} {b F : Int} {Mx Mq Mx1 Mq1 M : mm_} {a a1 o o1 s z : Int} {K : Int → mm_ → Prop} {Kv : mm_ → Prop} {Qt : qt_} {dec : Int → Option Int}
theorem q_270s [Inhabited gh_] {w : Int} (hs : sp_ M) (h : K (-1) M) : Tr_ wd0 pg0 (d + 2) 270 [.inr (.inr 6), .inl w] M (ri_ K) Qt := t_270 fun V hV hW => b_270_0 (Tr_mono _) hV hW w M (by
  refine q_227s hs ?_
  rw [if_neg (by decide)]
  exact ri_i h)
theorem y_n4 [Inhabited gh_] {t r kk : Int} {A : mm_ → Prop} (hE : ER b F Mx1 Mq1 a1 o1) (ht : 0 ≤ t ∧ t < 1202) (hr : kk = if r = -1 then 4 else 0) (h : A (Xn_ Mx1 b kk t)) : bl_ (Mx1 1 8) → (if Mx1 1 8 = 0 then A Mx1 else (if r = -1 then Tr_ wd0 pg0 (d + 1) 116 [.inr (.inr 1), .inl 4, .inl t] Mx1 (rv_ A) Qt else A Mx1)) := by
  intro _
  have h8 := hE.2.2.2.2.2.2.1
  have h01 := hE.2.2.2.2.2.2.2.2.1
  unfold Xn_ at h
  by_cases c : Mx1 1 8 = 0
  · rw [if_pos c]
    rw [if_pos (.inl (by omega))] at h; exact h
  · rw [if_neg c]
    by_cases c2 : r = -1
    · rw [if_pos c2]
      rw [if_pos c2] at hr
      rw [if_neg (by omega), hr] at h
      exact x_116 ht.1 ht.2 (ER_fl hE).1 (ER_fl hE).2 h
    · rw [if_neg c2]
      rw [if_neg c2] at hr
      rw [if_pos (.inr hr)] at h; exact h
theorem q_n4 [Inhabited gh_] {r kk p k : Int} (h16 : M 6 16 = b) (h01 : b = 0 ∨ b = 1) (hr : r = -1 ∨ 0 ≤ r) (hk : kk = if r = -1 then k else 0) (hk0 : k ≠ 0) : (if r < 0 then nt_ M k p else M) = Qn_ M b kk p := by
  unfold Qn_
  rcases hr with h | h
  · rw [if_pos (by omega)]
    rw [if_pos h] at hk
    rcases h01 with hb | hb
    · rw [if_pos (.inl hb)]; unfold nt_; rw [if_pos (by omega)]
    · rw [if_neg (by omega), hk]
  · rw [if_neg (by omega)]
    rw [if_neg (by omega)] at hk
    rw [if_pos (.inr hk)]
theorem AR_fin [Inhabited gh_] (h : AM b F Mx Mq Mx1 Mq1 a a1 o s z) (hz : 3 ≤ z) (ha : a + 2 ≤ a1) (h75 : Mq1 6 75 = Mq 6 75 + 1) (hs : s + 2 ≤ 6 * (a1 - a)) {w v : Int} (h204 : Mq1 204 (Mq 6 75) = Mx 71 a ∧ Mq1 203 (Mq 6 75) = w ∧ (w = 2 ∨ w = 5 → Mq1 205 (Mq 6 75) = v)) (hop : b = 1 → Mq1 6 13 = 0 → OPC Mx1 Mq1 (Mq 6 61) (Mq 6 75) (Mx 5 3) (Mx1 5 3) (Mq1 6 104)) : AR b F Mx Mq Mx1 Mq1 a a1 o w v := by
  obtain ⟨g1, g2, g3, g4, g5, g6, g7, g8, g9, g10, g11, g12, g13⟩ := h
  exact ⟨ha, g3, g4, g5, h75, g6, g7, ⟨g8.1, by omega, g8.2.2⟩, g9, g10, g11, ⟨by omega, g12.2⟩, h204, fun hb h0 => ⟨g13 hb h0, hop hb h0⟩⟩
theorem AM_f [Inhabited gh_] (h : AM b F Mx Mq Mx1 Mq1 a a1 o s z) : 0 ≤ Mq1 6 104 ∧ Mq1 6 104 ≤ 1500 + a1 := by
  have h1 := h.1.2.2.2.2.1
  have h2 := h.2.2.2.2.2.1
  have h3 := ER_a (AM_E h)
  omega
theorem AM_st [Inhabited gh_] (h : AM b F Mx Mq Mx1 Mq1 a a1 o s z) (hs : s ≤ 400) : 0 ≤ Mx1 5 3 ∧ Mx1 5 3 < 12000 := ER_st (AM_E h)
theorem bd_n [Inhabited gh_] {x : Option Int} {g : Int → Option Int} (h : x.bind g ≠ none) : ∃ r, x = some r ∧ g r ≠ none := by
  cases x with
  | none => exact absurd rfl h
  | some r => exact ⟨r, rfl, h⟩
theorem Tr_rv [Inhabited gh_] {m : Nat} {args : List pv_} (h : Tr_ wd0 pg0 d m args M (rv_ Kv) Qt) : Tr_ wd0 pg0 d m args M (rv_ fun M1 => rv_ Kv [] M1) Qt := Tr_m h (fun vs M h => ⟨h.1, rfl, h.2⟩) (fun _ _ h => h)
theorem EXP_le [Inhabited gh_] {T c c' f fe t : Int} (h : EXP Mx Mq T c c' f fe t) : c ≤ c' ∧ 0 ≤ f ∧ f < fe := by
  obtain ⟨l, h1, h2, h3, h4, h5, h6, h7, h8⟩ := h
  omega
theorem VAL_le [Inhabited gh_] {T fe k : Int} {σ : Int → Int} : ∀ (m : Nat) {c c' : Int}, VAL Mx Mq T fe σ k m c c' → c ≤ c'
  | 0, c, c', h => by have : c' = c := h; omega
  | m + 1, c, c', ⟨c1, h1, h2⟩ => by have := VAL_le m h1; have := EXP_le h2; omega
theorem VAL_c [Inhabited gh_] {Mx' Mq' : mm_} {T fe fe' k : Int} {σ σ' : Int → Int} (hq : ∀ i, 0 ≤ i → i < fe → Mq' 227 i = Mq 227 i ∧ Mq' 228 i = Mq 228 i) (ht : tb_ Mq Mq') (hfe : fe ≤ fe') (hσ : ∀ i, σ' i = σ i) : ∀ (m : Nat) {c c' : Int}, (m : Int) ≤ 3 → (∀ i, 3 * k ≤ i → i < 3 * k + m → Mq' 209 i = Mq 209 i) → (∀ i, c ≤ i → i < c' → Mx' 142 i = Mx 142 i) → VAL Mx Mq T fe σ k m c c' → VAL Mx' Mq' T fe' σ' k m c c'
  | 0, c, c', _, _, _, h => h
  | m + 1, c, c', hm, h9, hx, ⟨c1, h1, h2⟩ => by
    have e1 := VAL_le m h1
    have e2 := EXP_le h2
    refine ⟨c1, VAL_c hq ht hfe hσ m (by omega) (fun i x y => h9 i x (by omega)) (fun i x y => hx i x (by omega)) h1, ?_⟩
    rw [h9 (3 * k + m) (by omega) (by omega), hσ]
    exact EXP_c h2 (fun i x y => hx i (by omega) y) (fun i x y => hq i (by omega) y) ht hfe
/-- the tables that ops look at -/
def tc_ (T : Int) (M M' : mm_) : Prop := tb_ M M' ∧ M' 156 = M 156 ∧ M' 157 = M 157 ∧ M' 170 = M 170 ∧ M' 174 = M 174 ∧ M' 175 T = M 175 T ∧ M' 6 17 = M 6 17 ∧ M' 6 18 = M 6 18 ∧ M' 6 19 = M 6 19
theorem OPC_c [Inhabited gh_] {Mx' Mq' : mm_} {T k c c' fe fe' : Int} (h : OPC Mx Mq T k c c' fe) (hx : ∀ i, c ≤ i → i < c' → Mx' 142 i = Mx 142 i) (ho : ∀ r, r ∈ opL → Mq' r k = Mq r k) (h9 : ∀ i, 3 * k ≤ i → i < 3 * k + 3 → Mq' 209 i = Mq 209 i) (hq : ∀ i, 0 ≤ i → i < fe → Mq' 227 i = Mq 227 i ∧ Mq' 228 i = Mq 228 i) (ht : tc_ T Mq Mq') (hfe : fe ≤ fe') : OPC Mx' Mq' T k c c' fe' := by
  obtain ⟨t1, t2, t3, t4, t5, t6, t7, t8, t9⟩ := ht
  have o3 := ho 203 (by decide)
  have o5 := ho 205 (by decide)
  have o6 := ho 206 (by decide)
  have o7 := ho 207 (by decide)
  have o10 := ho 210 (by decide)
  have EC : ∀ {c1 c2 f t : Int}, c ≤ c1 → c2 ≤ c' → EXP Mx Mq T c1 c2 f fe t → EXP Mx' Mq' T c1 c2 f fe' t := fun h1 h2 h3 => EXP_c h3 (fun i x y => hx i (by omega) (by omega)) (fun i x y => hq i (by have := EXP_le h3; omega) y) t1 hfe
  have VC : ∀ {c1 : Int} {σ σ' : Int → Int} {m : Nat}, (m : Int) ≤ 3 → c1 ≤ c' → (∀ i, σ' i = σ i) → VAL Mx Mq T fe σ k m c c1 → VAL Mx' Mq' T fe' σ' k m c c1 := fun hm h2 hs h3 => VAL_c hq t1 hfe hs _ hm (fun i x y => h9 i x (by omega)) (fun i x y => hx i x (by omega)) h3
  unfold OPC at *
  rw [o3, o5, o6, o7, o10, t1.1, t1.2.1, t1.2.2.1, t1.2.2.2.1, t1.2.2.2.2, t2, t3, t4, t5, t6, t7, t8, t9]
  rcases h with h | h | h | h | h | h | h | h
  · obtain ⟨g1, g2, c1, g3, g4, g5⟩ := h
    refine .inl ⟨g1, g2, c1, ?_, g4, ?_⟩
    · rcases g5 with g | ⟨c0, g⟩
      · have := EXP_le g.2.2.1; rw [hx _ (by omega) (by omega)]; exact g3
      · have := EXP_le g.2.1; have := EXP_le g.2.2.2.2.1; rw [hx _ (by omega) (by omega)]; exact g3
    · rcases g5 with g | ⟨c0, g⟩
      · have := EXP_le g.2.2.1
        exact .inl ⟨g.1, g.2.1, EC (by omega) (by omega) g.2.2.1, by rw [hx _ (by omega) (by omega)]; exact g.2.2.2⟩
      · have := EXP_le g.2.1
        have := EXP_le g.2.2.2.2.1
        exact .inr ⟨c0, g.1, EC (by omega) (by omega) g.2.1, by rw [hx _ (by omega) (by omega)]; exact g.2.2.1, by rw [hx _ (by omega) (by omega)]; exact g.2.2.2.1, EC (by omega) (by omega) g.2.2.2.2.1, by rw [hx _ (by omega) (by omega)]; exact g.2.2.2.2.2⟩
  · obtain ⟨g1, g2, g3, g4, g5, c1, c2, m, g6, g7, g8, g9, g10, g11, g12, g13⟩ := h
    have l1 := VAL_le _ g6
    have l2 : c1 ≤ c2 := by
      rcases g7 with g | g | g
      · omega
      · exact (EXP_le g.2.2).1
      · omega
    refine .inr (.inl ⟨g1, g2, g3, g4, g5, c1, c2, m, VC (by omega) (by omega) (fun _ => rfl) g6, ?_, by rw [hx _ (by omega) (by omega)]; exact g8, by rw [hx _ (by omega) (by omega)]; exact g9, by rw [hx _ (by omega) (by omega)]; exact g10, by rw [hx _ (by omega) (by omega)]; exact g11, by rw [hx _ (by omega) (by omega)]; exact g12, g13⟩)
    rcases g7 with g | g | g
    · exact .inl g
    · exact .inr (.inl ⟨g.1, g.2.1, EC (by omega) (by omega) g.2.2⟩)
    · exact .inr (.inr g)
  · obtain ⟨g1, g2, c1, g3, g4, g5, g6⟩ := h
    have := EXP_le g3
    exact .inr (.inr (.inl ⟨g1, g2, c1, EC (by omega) (by omega) g3, by rw [hx _ (by omega) (by omega)]; exact g4, by rw [hx _ (by omega) (by omega)]; exact g5, g6⟩))
  · obtain ⟨g1, g2, g4, g5, g6⟩ := h
    exact .inr (.inr (.inr (.inl ⟨g1, g2, by rw [hx _ (by omega) (by omega)]; exact g4, by rw [hx _ (by omega) (by omega)]; exact g5, g6⟩)))
  · obtain ⟨g1, g2, g3, g4, g5, c1, g6, g7, g8, g9, g10⟩ := h
    have l1 := VAL_le _ g6
    exact .inr (.inr (.inr (.inr (.inl ⟨g1, g2, g3, g4, g5, c1, VC (by omega) (by omega) (fun _ => rfl) g6, by rw [hx _ (by omega) (by omega)]; exact g7, by rw [hx _ (by omega) (by omega)]; exact g8, by rw [hx _ (by omega) (by omega)]; exact g9, g10⟩))))
  · obtain ⟨g1, g2⟩ := h
    refine .inr (.inr (.inr (.inr (.inr (.inl ⟨g1, ?_⟩)))))
    rcases g2 with g | g
    · exact .inl ⟨g.1, by rw [hx _ (by omega) (by omega)]; exact g.2.1, g.2.2⟩
    · exact .inr ⟨g.1, g.2.1, by rw [hx _ (by omega) (by omega)]; exact g.2.2.1, by rw [hx _ (by omega) (by omega)]; exact g.2.2.2.1, g.2.2.2.2⟩
  · obtain ⟨g1, g2, g3⟩ := h
    exact .inr (.inr (.inr (.inr (.inr (.inr (.inl ⟨g1, by rw [hx _ (by omega) (by omega)]; exact g2, g3⟩))))))
  · obtain ⟨g1, g2, g3, g4, g5⟩ := h
    exact .inr (.inr (.inr (.inr (.inr (.inr (.inr ⟨g1, g2, by rw [hx _ (by omega) (by omega)]; exact g3, by rw [hx _ (by omega) (by omega)]; exact g4, g5⟩))))))
theorem OPC_n [Inhabited gh_] {T k c c' fe : Int} (h : OPC Mx Mq T k c c' fe) : OPC (nX_ Mx) (nx_ Mq) T k c c' fe := by
  have e : ∀ r, r ≠ 6 → nx_ Mq r = Mq r := fun r hr => nx_ne hr
  refine OPC_c h (fun i _ _ => by rw [nX_ne (by decide)]) (fun r hr => by rw [e r (fun c => absurd hr (by rw [c]; decide))]) (fun i _ _ => by rw [e _ (by decide)]) (fun i _ _ => by rw [e _ (by decide), e _ (by decide)]; exact ⟨rfl, rfl⟩) ⟨⟨e _ (by decide), e _ (by decide), e _ (by decide), e _ (by decide), e _ (by decide)⟩, e _ (by decide), e _ (by decide), e _ (by decide), e _ (by decide), by rw [e _ (by decide)], nx_6 (by decide), nx_6 (by decide), nx_6 (by decide)⟩ (by omega)
/-- the sign at the end of an act -/
theorem y_end [Inhabited gh_] {d2 d3 : Nat} {G : mm_ → Prop} (A : AM b F Mx Mq Mx1 Mq1 a a1 o s z) (hS : b = 1 → tS (Mx 70) 259 a1 ≠ none) (pre : ∀ (Kv : mm_ → Prop) (Qtq : qt_), Tr_ wd0 pg0 (d2 + 3) 244 [.inr (.inr 6), .inl 59] Mq1 (rv_ Kv) Qtq → Tr_ wd0 pg0 d3 296 [.inr (.inr 6)] Mq (rv_ Kv) Qtq)
    (hz : -5 ≤ z) (ha : a + 1 ≤ a1) (h75 : Mq1 6 75 = Mq 6 75 + 1) (hs : s ≤ 6 * (a1 - a) + 7) {w v : Int} (h204 : Mq1 204 (Mq 6 75) = Mx 71 a ∧ Mq1 203 (Mq 6 75) = w ∧ (w = 2 ∨ w = 5 → Mq1 205 (Mq 6 75) = v)) (hop : b = 1 → Mq1 6 13 = 0 → OPC Mx1 Mq1 (Mq 6 61) (Mq 6 75) (Mx 5 3) (Mx1 5 3) (Mq1 6 104))
    (hK : ∀ Mx' Mq' a', AR b F Mx Mq Mx' Mq' a a' o w v → tS (Mx 70) 259 a1 = some a' → (∀ (Kv : mm_ → Prop) (Qtq : qt_), Kv Mq' → Tr_ wd0 pg0 d3 296 [.inr (.inr 6)] Mq (rv_ Kv) Qtq) → G Mx')
    (hQ : b = 0 → ∀ Mx', XA Mx Mx' → (∀ (Kv : mm_ → Prop) (Qtq : qt_), (∀ M', SQ Mx' Mq M' → Kv M') → Tr_ wd0 pg0 d3 296 [.inr (.inr 6)] Mq (rv_ Kv) Qtq) → Qt 8 Mx') :
    Tr_ wd0 pg0 (d + 3) 121 [.inr (.inr 1), .inl 59] Mx1 (rv_ G) Qt := by
  have hE := AM_E A
  have hT := AM_T A
  have e70 := AM_70 A
  have e71 := AM_71 A
  have hx := XC_XA (AM_X A)
  have hq := QC_QA (AM_Q A)
  refine y_121 hE (by decide) (fun hb => by rw [e70]; exact hS hb) (fun k1 h12 hE1 => ?_) (fun hb k1 h12 => ?_) (fun hb k1 => ?_)
  · have A1 := AM_go A hE1
    refine hK _ (nx_ Mq1) (a1 + 1) (AR_fin A1 (by omega) (by omega) (by rw [nx_6 (by decide)]; exact h75) (by omega) (by rw [nx_ne (by decide), nx_ne (by decide), nx_ne (by decide)]; exact h204) (fun hb h0 => ?_)) (tS_e (by rw [← e70]; exact k1) h12) (fun Kv Qtq hk => pre _ _ (j_244t hT hE (by decide) k1 h12 hk))
    have := OPC_n (hop hb (by rw [nx_6 (by decide)] at h0; exact h0))
    rw [nX_ne (by decide), nx_6 (by decide)]
    exact this
  · refine hQ hb _ (XA_tr hx (XF_XA fl_XF)) fun Kv Qtq hk9 => pre _ _ (j_244r hT hE hb (by decide) k1 h12 (hk9 _ (SQ_bf hE hb (by decide) hq)))
  · refine hQ hb _ (XA_tr hx (XF_XA fl_XF)) fun Kv Qtq hk9 => pre _ _ (j_244w hT hE hb (by decide) k1 (hk9 _ (SQ_bf hE hb (by decide) hq)))
theorem y_143r [Inhabited gh_] (hn : n ≤ 12) (ho : o = 12 - (n : Int)) (h : TA b F Mx Mq a o) (hk : Mx 70 a = 16) (hS : b = 1 → acS (Mx 70) dec o a ≠ none)
    (hK : ∀ Mx' Mq' a', AR b F Mx Mq Mx' Mq' a a' o 4 0 → acS (Mx 70) dec o a = some a' → (∀ (Kv : mm_ → Prop) (Qtq : qt_), Kv Mq' → Tr_ wd0 pg0 (dq + 13) 296 [.inr (.inr 6)] Mq (rv_ Kv) Qtq) → K 0 Mx')
    (hQ : b = 0 → ∀ Mx', XA Mx Mx' → (∀ (Kv : mm_ → Prop) (Qtq : qt_), (∀ M', SQ Mx' Mq M' → Kv M') → Tr_ wd0 pg0 (dq + 13) 296 [.inr (.inr 6)] Mq (rv_ Kv) Qtq) → Qt 8 Mx') :
    Tr_ wd0 pg0 (9 * n + 15) 143 [.inr (.inr 1)] Mx (ri_ K) Qt := by
  have hsyn : acS (Mx 70) dec o a = (gS a).bind fun a1 => (tS (Mx 70) 100 a1).bind (tS (Mx 70) 259) := by
    unfold acS seS
    rw [if_neg (by omega), if_neg (by omega), if_pos (.inr hk)]
    cases gS a with
    | none => rfl
    | some a1 =>
      simp only [Option.bind_some]
      cases tS (Mx 70) 100 a1 with
      | none => rfl
      | some a2 => simp only [Option.bind_some]; rw [if_neg (by omega)]; rfl
  rw [hsyn] at hS
  have A0 := AM_rf h
  have hE := AM_E A0
  have hT := AM_T A0
  have h61 : Mx 1 6 = o := hE.2.2.2.1
  have h01 := hE.2.2.2.2.2.2.2.2.1
  have hga := hE.1
  have hp0 : Mq 150 (Mq 6 12) = Mx 71 a := (ER_k hT hE).2.1
  have h75 := h.2.2.2.1
  have hae := ER_a hE
  refine t_143 fun V hV hW => b_143_0 (Tr_mono _) hV hW Mx ?_
  refine y_103 hE (fun e => by omega) (fun _ => ?_)
  rw [if_pos rfl]
  refine y_103 hE (fun e => by omega) (fun _ => ?_)
  rw [if_pos rfl]
  refine y_103 hE (fun e => by omega) (fun _ => ?_)
  rw [if_pos rfl]
  refine y_103 hE (fun _ => ?_) (fun e => absurd hk e)
  rw [if_neg (by decide)]
  refine b_143_52 (Tr_mono _) hV hW 0 Mx ?_
  refine y_103 hE (fun e => by omega) (fun _ => ?_)
  refine y_105 hE (by omega) (fun hb => by intro e; rw [e] at hS; exact hS hb rfl) (fun h12 hE1 => ?_) (fun hb h12 => ?_)
  rotate_left
  · -- no room behind reset
    refine hQ hb _ (XF_XA fl_XF) fun Kv Qtq hk9 => ?_
    have hsp := SQ_bf hE hb (k := 2) (by decide) QA_rf
    exact t_296 fun V hV hW => b_296_0 (Tr_mono _) hV hW Mq ⟨(ER_k hT hE).2.2.1, j_228f hT hE (by decide) (by omega) (by
      rw [if_pos rfl]
      refine j_228f hT hE (by decide) (by omega) ?_
      rw [if_pos rfl]
      refine j_228r hT hE hb (by decide) hk h12 ?_
      rw [if_neg (by decide)]
      refine q_282s hsp.1 ?_
      refine q_227s hsp.1 ?_
      rw [if_neg (by decide)]
      exact rv_i (hk9 _ hsp))⟩
  have A1 := AM_go A0 hE1
  have hT1 := AM_T A1
  have e70 := AM_70 A1
  have e71 := AM_71 A1
  rw [gS_e h12, Option.bind_some] at hS
  refine y_107 hE1 (fun hb => by rw [e70]; intro e; rw [e] at hS; exact hS hb rfl) (fun k1 h13 hE2 => ?_) (fun hb k1 h13 => ?_) (fun hb k1 => ?_)
  rotate_left
  · refine hQ hb _ (XA_tr (XC_XA (AM_X A1)) (XF_XA fl_XF)) fun Kv Qtq hk9 => ?_
    have hsp := SQ_bf hE1 hb (k := 2) (by decide) (QC_QA (AM_Q A1))
    obtain ⟨f1, f2, f3, f4, f5, f6⟩ := ER_k hT1 hE1
    exact t_296 fun V hV hW => b_296_0 (Tr_mono _) hV hW Mq ⟨(ER_k hT hE).2.2.1, j_228f hT hE (by decide) (by omega) (by
      rw [if_pos rfl]
      refine j_228f hT hE (by decide) (by omega) ?_
      rw [if_pos rfl]
      refine j_228t hT hE (by decide) hk h12 ?_
      rw [if_neg (by decide)]
      have g1 := (kq_n f1).mpr k1
      have g0 := f6 h13
      rw [g0] at g1 f2
      refine q_282r g0 (ER_ok hE1 hb) g1 ?_
      rw [f2]
      refine q_227s hsp.1 ?_
      rw [if_neg (by decide)]
      exact rv_i (hk9 _ hsp))⟩
  · refine hQ hb _ (XA_tr (XC_XA (AM_X A1)) (XF_XA fl_XF)) fun Kv Qtq hk9 => ?_
    have hsp := SQ_bf hE1 hb (k := 1) (by decide) (QC_QA (AM_Q A1))
    obtain ⟨f1, f2, f3, f4, f5, f6⟩ := ER_k hT1 hE1
    exact t_296 fun V hV hW => b_296_0 (Tr_mono _) hV hW Mq ⟨(ER_k hT hE).2.2.1, j_228f hT hE (by decide) (by omega) (by
      rw [if_pos rfl]
      refine j_228f hT hE (by decide) (by omega) ?_
      rw [if_pos rfl]
      refine j_228t hT hE (by decide) hk h12 ?_
      rw [if_neg (by decide)]
      refine q_282w rfl f3 (ER_ok hE1 hb) (fun c => k1 ((kq_n f1).mp c)) ?_
      rw [f2]
      refine q_227s hsp.1 ?_
      rw [if_neg (by decide)]
      exact rv_i (hk9 _ hsp))⟩
  have A2 := AM_go A1 hE2
  have hT2 := AM_T A2
  have hV2 := AM_V A2
  have k1' : Mx 70 (a + 1) = 100 := by rw [← e70]; exact k1
  have hg1 : gd_ Mx (a + 1) := gd_c e70.symm hE1.1
  have hnm : nm9_ (nX_ (nX_ Mx)) (a + 1) := ⟨gd_c (AM_70 A2) hg1, by rw [AM_70 A2]; exact k1'⟩
  rw [tS_e k1' h13, Option.bind_some] at hS
  refine x_129R hT2 hV2 hnm ?_
  -- which timer
  have q151 : nx_ (nx_ Mq) 151 = Mq 151 := by rw [nx_ne (by decide), nx_ne (by decide)]
  have tc2 : ∀ v, tmr (nx_ (nx_ Mq)) v = tmr Mq v := fun v => tmr_c (QF_tr nx_QF nx_QF)
  have tc1 : ∀ v, tmr (nx_ Mq) v = tmr Mq v := fun v => tmr_c nx_QF
  rw [tc2, q151]
  have hr := tmr_r (Mx := Mx) (Mq := Mq) h.2.1 (v := Mq 151 (a + 1))
  generalize hrr : tmr Mq (Mq 151 (a + 1)) = r at *
  obtain ⟨kk, hkk⟩ : ∃ kk, kk = if r = -1 then (4 : Int) else 0 := ⟨_, rfl⟩
  have hkc : kk = 0 ∨ (3 ≤ kk ∧ kk ≤ 6) := by rw [hkk]; split <;> omega
  obtain ⟨A3, hz3⟩ := AM_m (k := kk) (tk := a + 1) A2 hkc hg1 (by omega)
  refine y_n4 (A := fun M => if (0 : Int) = 0 then V 103 [rr 1, ii 0, ii 0, ii (a + 1), ii r] [] M else Tr_ wd0 pg0 (9 * n + 14) 145 [.inr (.inr 1), .inl 0] M (rv_ fun M5 => V 103 [rr 1, ii 0, ii 0, ii (a + 1), ii r] [] M5) Qt) hE2 (by omega) hkk ?_
  rw [if_pos rfl]
  generalize hX3 : Xn_ (nX_ (nX_ Mx)) b kk (a + 1) = Mx3 at *
  generalize hQ3 : Qn_ (nx_ (nx_ Mq)) b kk (Mx 71 (a + 1)) = Mq3 at *
  have hE3 := AM_E A3
  have q75 : Mq3 6 75 = Mq 6 75 := by rw [← hQ3, Qn_6 (by decide) (by decide), nx_6 (by decide), nx_6 (by decide)]
  -- Q up to the op
  have pre : ∀ (Kv : mm_ → Prop) (Qtq : qt_), Tr_ wd0 pg0 (dq + 12) 244 [.inr (.inr 6), .inl 59] (up_ (em_ Mq3 4 (Mx 71 a)) 205 (Mq 6 75) r) (rv_ Kv) Qtq → Tr_ wd0 pg0 (dq + 13) 296 [.inr (.inr 6)] Mq (rv_ Kv) Qtq := by
    intro Kv Qtq hq
    obtain ⟨f1, f2, f3, f4, f5, f6⟩ := ER_k hT1 hE1
    refine t_296 fun V hV hW => b_296_0 (Tr_mono _) hV hW Mq ⟨(ER_k hT hE).2.2.1, j_228f hT hE (by decide) (by omega) ?_⟩
    rw [if_pos rfl]
    refine j_228f hT hE (by decide) (by omega) ?_
    rw [if_pos rfl]
    refine j_228t hT hE (by decide) hk h12 ?_
    rw [if_neg (by decide)]
    refine q_282g (AM_V A1) hE1.2.2.1 (by omega) h13 (ER_goq hE1) (by rw [← hE1.2.2.1]; exact (kq_n f1).mpr k1) ?_
    have e151 : nx_ Mq 151 = Mq 151 := nx_ne (by decide)
    have e150 : nx_ Mq 150 (a + 1) = Mx 71 (a + 1) := by rw [← e71, ← f2, hE1.2.2.1]
    rw [e151, tc1, hrr, e150, q_n4 (b := b) (kk := kk) (by rw [nx_6 (by decide), nx_6 (by decide)]; exact hE.2.2.2.2.2.2.2.1) h01 (by omega) hkk (by decide), hQ3]
    refine q_227g (ER_goq hE3) ?_
    rw [if_pos rfl, hp0]
    refine q_266 (by omega) (by omega) ?_
    rw [q75]
    refine ⟨by omega, ?_⟩
    exact Tr_rv hq
  have hp := PXL_1 (v := r) hE3.2.2.2.2.2.2.1 h01 (PXL_1 (v := 35) hE3.2.2.2.2.2.2.1 h01 (PXL_0 (b := b) (M := Mx3)))
  refine b_143_103 (Tr_mono _) hV hW 0 0 (a + 1) r Mx3 ?_
  rw [if_pos rfl]
  have h2' : Mx3 1 2 = 5 := (AM_V A3).1
  have A4 := AM_p A3 hp (by simp only [List.length_cons, List.length_nil]; omega)
  refine x_138 h2' (ER_st hE3).1 (ER_st hE3).2 ?_
  have A34 := AM_p A3 (PXL_1 (v := 35) hE3.2.2.2.2.2.2.1 h01 (PXL_0 (b := b) (M := Mx3))) (by simp only [List.length_cons, List.length_nil]; omega)
  refine x_138 (AM_V A34).1 (ER_st (AM_E A34)).1 (ER_st (AM_E A34)).2 ?_
  have A5 := AM_up (r := 205) (v := r) (AM_em (w := 4) (p := Mx 71 a) A4 q75) (by decide) (rfl : Mq 6 75 = Mq 6 75)
  refine y_end A5 (fun hb => hS hb) pre (by decide) (by omega) ?_ ?_ ?_ (fun hb h0 => ?_) (fun Mx' Mq' a' hA hs hq => ⟨.inl rfl, ri_i (hK Mx' Mq' a' hA ?_ hq)⟩) hQ
  · rw [up_ne (by decide), em_75, q75]
  · simp only [List.length_cons, List.length_nil]; omega
  · exact ⟨by rw [up_ne (by decide), ← q75, em_204], by rw [up_ne (by decide), ← q75, em_203], fun h => absurd h (by decide)⟩
  · have h13 : Mq3 6 13 = 0 := by rw [up_ne (by decide), em_6 (by decide)] at h0; exact h0
    have hk0 := hz3 hb h13
    have hr0 : r ≠ -1 := fun e => by rw [if_pos e] at hkk; omega
    have hp4 := hp.2.2.2.1 hb
    obtain ⟨s1, s2, _⟩ := hp4.2
    have e53 : Mx3 5 3 = Mx 5 3 := by rw [← hX3, Xn_r (by decide), nX_ne (by decide), nX_ne (by decide)]
    rw [e53] at s1 s2 hp4
    have e173 : up_ (em_ Mq3 4 (Mx 71 a)) 205 (Mq 6 75) r 173 (Mq 6 61) = Mq 173 (Mq 6 61) := by rw [up_ne (by decide), em_r (.inl (by decide)) (by decide), ← hQ3, Qn_r (by decide), nx_ne (by decide), nx_ne (by decide)]
    refine .inr (.inr (.inr (.inl ⟨?_, ?_, ?_, ?_, ?_⟩)))
    · rw [up_ne (by decide), ← q75, em_203]
    · rw [up_at, e173]; omega
    · simpa using s2
    · rw [up_at]; exact s1
    · rw [hp4.1]; rfl
  · rw [hsyn, gS_e h12, Option.bind_some, tS_e k1' h13, Option.bind_some]; exact hs
end AS
end T103_as
section T104_as
/-! set -/
section AS
variable {d dq n : Nat} {b F : Int} {Mx Mq Mx1 Mq1 M : mm_} {a a1 o o1 s z : Int} {K : Int → mm_ → Prop} {Kv : mm_ → Prop} {Qt : qt_} {dec : Int → Option Int}
theorem y_143s [Inhabited gh_] (hn : n ≤ 12) (ho : o = 12 - (n : Int)) (h : TA b F Mx Mq a o) (hk : Mx 70 a = 15) (hS : b = 1 → acS (Mx 70) dec o a ≠ none)
    (hK : ∀ Mx' Mq' a', AR b F Mx Mq Mx' Mq' a a' o 3 0 → acS (Mx 70) dec o a = some a' → (∀ (Kv : mm_ → Prop) (Qtq : qt_), Kv Mq' → Tr_ wd0 pg0 (dq + 13) 296 [.inr (.inr 6)] Mq (rv_ Kv) Qtq) → K 0 Mx')
    (hQ : b = 0 → ∀ Mx', XA Mx Mx' → (∀ (Kv : mm_ → Prop) (Qtq : qt_), (∀ M', SQ Mx' Mq M' → Kv M') → Tr_ wd0 pg0 (dq + 13) 296 [.inr (.inr 6)] Mq (rv_ Kv) Qtq) → Qt 8 Mx') :
    Tr_ wd0 pg0 (9 * n + 15) 143 [.inr (.inr 1)] Mx (ri_ K) Qt := by
  have hsyn : acS (Mx 70) dec o a = (gS a).bind fun a1 => (tS (Mx 70) 100 a1).bind fun a2 => (ES (Mx 70) 0 o a2).bind (tS (Mx 70) 259) := by
    unfold acS seS
    rw [if_neg (by omega), if_neg (by omega), if_pos (.inl hk)]
    cases gS a with
    | none => rfl
    | some a1 =>
      simp only [Option.bind_some]
      cases tS (Mx 70) 100 a1 with
      | none => rfl
      | some a2 => simp only [Option.bind_some]; rw [if_pos hk]
  rw [hsyn] at hS
  have A0 := AM_rf h
  have hE := AM_E A0
  have hT := AM_T A0
  have h61 : Mx 1 6 = o := hE.2.2.2.1
  have h01 := hE.2.2.2.2.2.2.2.2.1
  have hga := hE.1
  have hp0 : Mq 150 (Mq 6 12) = Mx 71 a := (ER_k hT hE).2.1
  have h75 := h.2.2.2.1
  have hae := ER_a hE
  refine t_143 fun V hV hW => b_143_0 (Tr_mono _) hV hW Mx ?_
  refine y_103 hE (fun e => by omega) (fun _ => ?_)
  rw [if_pos rfl]
  refine y_103 hE (fun e => by omega) (fun _ => ?_)
  rw [if_pos rfl]
  refine y_103 hE (fun _ => ?_) (fun e => absurd hk e)
  rw [if_neg (by decide)]
  refine b_143_52 (Tr_mono _) hV hW 0 Mx ?_
  refine y_103 hE (fun _ => ?_) (fun e => absurd hk e)
  refine y_105 hE (by omega) (fun hb => by intro e; rw [e] at hS; exact hS hb rfl) (fun h12 hE1 => ?_) (fun hb h12 => ?_)
  rotate_left
  · -- no room behind reset
    refine hQ hb _ (XF_XA fl_XF) fun Kv Qtq hk9 => ?_
    have hsp := SQ_bf hE hb (k := 2) (by decide) QA_rf
    exact t_296 fun V hV hW => b_296_0 (Tr_mono _) hV hW Mq ⟨(ER_k hT hE).2.2.1, j_228f hT hE (by decide) (by omega) (by
      rw [if_pos rfl]
      refine j_228r hT hE hb (by decide) hk h12 ?_
      rw [if_neg (by decide)]
      refine q_282s hsp.1 ?_
      refine q_270s hsp.1 ?_
      refine q_227s hsp.1 ?_
      rw [if_neg (by decide)]
      exact rv_i (hk9 _ hsp))⟩
  have A1 := AM_go A0 hE1
  have hT1 := AM_T A1
  have e70 := AM_70 A1
  have e71 := AM_71 A1
  rw [gS_e h12, Option.bind_some] at hS
  refine y_107 hE1 (fun hb => by rw [e70]; intro e; rw [e] at hS; exact hS hb rfl) (fun k1 h13 hE2 => ?_) (fun hb k1 h13 => ?_) (fun hb k1 => ?_)
  rotate_left
  · refine hQ hb _ (XA_tr (XC_XA (AM_X A1)) (XF_XA fl_XF)) fun Kv Qtq hk9 => ?_
    have hsp := SQ_bf hE1 hb (k := 2) (by decide) (QC_QA (AM_Q A1))
    obtain ⟨f1, f2, f3, f4, f5, f6⟩ := ER_k hT1 hE1
    exact t_296 fun V hV hW => b_296_0 (Tr_mono _) hV hW Mq ⟨(ER_k hT hE).2.2.1, j_228f hT hE (by decide) (by omega) (by
      rw [if_pos rfl]
      refine j_228t hT hE (by decide) hk h12 ?_
      rw [if_neg (by decide)]
      have g1 := (kq_n f1).mpr k1
      have g0 := f6 h13
      rw [g0] at g1 f2
      refine q_282r g0 (ER_ok hE1 hb) g1 ?_
      rw [f2]
      refine q_270s hsp.1 ?_
      refine q_227s hsp.1 ?_
      rw [if_neg (by decide)]
      exact rv_i (hk9 _ hsp))⟩
  · refine hQ hb _ (XA_tr (XC_XA (AM_X A1)) (XF_XA fl_XF)) fun Kv Qtq hk9 => ?_
    have hsp := SQ_bf hE1 hb (k := 1) (by decide) (QC_QA (AM_Q A1))
    obtain ⟨f1, f2, f3, f4, f5, f6⟩ := ER_k hT1 hE1
    exact t_296 fun V hV hW => b_296_0 (Tr_mono _) hV hW Mq ⟨(ER_k hT hE).2.2.1, j_228f hT hE (by decide) (by omega) (by
      rw [if_pos rfl]
      refine j_228t hT hE (by decide) hk h12 ?_
      rw [if_neg (by decide)]
      refine q_282w rfl f3 (ER_ok hE1 hb) (fun c => k1 ((kq_n f1).mp c)) ?_
      rw [f2]
      refine q_270s hsp.1 ?_
      refine q_227s hsp.1 ?_
      rw [if_neg (by decide)]
      exact rv_i (hk9 _ hsp))⟩
  have A2 := AM_go A1 hE2
  have hT2 := AM_T A2
  have hV2 := AM_V A2
  have k1' : Mx 70 (a + 1) = 100 := by rw [← e70]; exact k1
  have hg1 : gd_ Mx (a + 1) := gd_c e70.symm hE1.1
  have hnm : nm9_ (nX_ (nX_ Mx)) (a + 1) := ⟨gd_c (AM_70 A2) hg1, by rw [AM_70 A2]; exact k1'⟩
  rw [tS_e k1' h13, Option.bind_some] at hS
  refine x_129R hT2 hV2 hnm ?_
  -- which timer
  have q151 : nx_ (nx_ Mq) 151 = Mq 151 := by rw [nx_ne (by decide), nx_ne (by decide)]
  have tc2 : ∀ v, tmr (nx_ (nx_ Mq)) v = tmr Mq v := fun v => tmr_c (QF_tr nx_QF nx_QF)
  have tc1 : ∀ v, tmr (nx_ Mq) v = tmr Mq v := fun v => tmr_c nx_QF
  rw [tc2, q151]
  have hr := tmr_r (Mx := Mx) (Mq := Mq) h.2.1 (v := Mq 151 (a + 1))
  generalize hrr : tmr Mq (Mq 151 (a + 1)) = r at *
  obtain ⟨kk, hkk⟩ : ∃ kk, kk = if r = -1 then (4 : Int) else 0 := ⟨_, rfl⟩
  have hkc : kk = 0 ∨ (3 ≤ kk ∧ kk ≤ 6) := by rw [hkk]; split <;> omega
  obtain ⟨A3, hz3⟩ := AM_m (k := kk) (tk := a + 1) A2 hkc hg1 (by omega)
  refine y_n4 (A := fun M => if (1 : Int) = 0 then V 103 [rr 1, ii 0, ii 1, ii (a + 1), ii r] [] M else Tr_ wd0 pg0 (9 * n + 14) 145 [.inr (.inr 1), .inl 0] M (rv_ fun M5 => V 103 [rr 1, ii 0, ii 1, ii (a + 1), ii r] [] M5) Qt) hE2 (by omega) hkk ?_
  rw [if_neg (by decide)]
  generalize hX3 : Xn_ (nX_ (nX_ Mx)) b kk (a + 1) = Mx3 at *
  generalize hQ3 : Qn_ (nx_ (nx_ Mq)) b kk (Mx 71 (a + 1)) = Mq3 at *
  have hE3 := AM_E A3
  have q75 : Mq3 6 75 = Mq 6 75 := by rw [← hQ3, Qn_6 (by decide) (by decide), nx_6 (by decide), nx_6 (by decide)]
  have m70 := AM_70 A3
  -- Q up to the e
  have pre0 : ∀ (Kv : mm_ → Prop) (Qtq : qt_), Tr_ wd0 pg0 (dq + 12) 270 [.inr (.inr 6), .inl (0 + 1)] Mq3 (ri_ fun v9 M12 => Tr_ wd0 pg0 (dq + 12) 227 [.inr (.inr 6)] M12 (ri_ fun v10 M13 => (if v10 = 0 then Tr_ wd0 pg0 (dq + 12) 266 [.inr (.inr 6), .inl 3, .inl (Mx 71 a)] M13 (ri_ fun v11 M14 => (0 ≤ v11 ∧ v11 < 1300) ∧ (0 ≤ v11 ∧ v11 < 1300) ∧ Tr_ wd0 pg0 (dq + 12) 244 [.inr (.inr 6), .inl 59] (up_ (up_ M14 205 v11 r) 206 v11 v9) (rv_ fun M15 => rv_ Kv [] M15) Qtq) Qtq else rv_ Kv [] M13)) Qtq) Qtq → Tr_ wd0 pg0 (dq + 13) 296 [.inr (.inr 6)] Mq (rv_ Kv) Qtq := by
    intro Kv Qtq hq
    obtain ⟨f1, f2, f3, f4, f5, f6⟩ := ER_k hT1 hE1
    refine t_296 fun V hV hW => b_296_0 (Tr_mono _) hV hW Mq ⟨(ER_k hT hE).2.2.1, j_228f hT hE (by decide) (by omega) ?_⟩
    rw [if_pos rfl]
    refine j_228t hT hE (by decide) hk h12 ?_
    rw [if_neg (by decide)]
    refine q_282g (AM_V A1) hE1.2.2.1 (by omega) h13 (ER_goq hE1) (by rw [← hE1.2.2.1]; exact (kq_n f1).mpr k1) ?_
    have e151 : nx_ Mq 151 = Mq 151 := nx_ne (by decide)
    have e150 : nx_ Mq 150 (a + 1) = Mx 71 (a + 1) := by rw [← e71, ← f2, hE1.2.2.1]
    rw [e151, tc1, hrr, e150, q_n4 (b := b) (kk := kk) (by rw [nx_6 (by decide), nx_6 (by decide)]; exact hE.2.2.2.2.2.2.2.1) h01 (by omega) hkk (by decide), hQ3, hp0]
    exact hq
  refine x_w (dq := dq) (w := 0) (wq := 0) hn ho (by omega) (by omega) (fun _ => rfl) (AM_T A3) (AM_V A3) hE3 (AM_f A3) (fun hb => by rw [m70]; intro e; have := hS hb; have e2 : a + 1 + 1 = a + 1 + 1 := rfl; rw [e] at this; exact this rfl) (fun Mx4 Mq4 a4 hW4 hS4 hq4 => ?_) (fun hb Mx' hx9 hq9 => ?_)
  rotate_left
  · refine hQ hb Mx' (XA_tr (XC_XA (AM_X A3)) (XF_XA hx9)) fun Kv Qtq hk9 => pre0 _ _ (hq9 _ _ fun M' g1 g2 g3 g4 g5 => ?_)
    refine q_227s g1 ?_
    rw [if_neg (by decide)]
    exact rv_i (hk9 _ ⟨g1, g2, g3, g4, QA_tr (QC_QA (AM_Q A3)) (QF_QA g5)⟩)
  have A4 := AM_w A3 hW4
  have hE4 := AM_E A4
  rw [m70] at hS4
  have q4 : ∀ i : Int, i = 61 ∨ i = 75 → Mq4 6 i = Mq3 6 i := fun i hi => hW4.2.2.1.2 i (by omega) (by omega) (by omega) (by omega) (by omega) (by omega) (by omega) (by omega) (by omega) (by omega) (by omega)
  have q475 : Mq4 6 75 = Mq 6 75 := by rw [q4 75 (.inr rfl)]; exact q75
  have a4g : a + 2 < a4 := by have := hW4.1; omega
  -- Q up to the op
  have pre : ∀ (Kv : mm_ → Prop) (Qtq : qt_), Tr_ wd0 pg0 (dq + 12) 244 [.inr (.inr 6), .inl 59] (up_ (up_ (em_ Mq4 3 (Mx 71 a)) 205 (Mq 6 75) r) 206 (Mq 6 75) (Mq3 6 104)) (rv_ Kv) Qtq → Tr_ wd0 pg0 (dq + 13) 296 [.inr (.inr 6)] Mq (rv_ Kv) Qtq := by
    intro Kv Qtq hq
    refine pre0 _ _ (hq4 _ _ ?_)
    refine q_227g (ER_goq hE4) ?_
    rw [if_pos rfl]
    refine q_266 (by omega) (by omega) ?_
    rw [q475]
    exact ⟨by omega, by omega, Tr_rv hq⟩
  have hp := PXL_1 (v := r) hE4.2.2.2.2.2.2.1 h01 (PXL_1 (v := 34) hE4.2.2.2.2.2.2.1 h01 (PXL_0 (b := b) (M := Mx4)))
  refine b_143_103 (Tr_mono _) hV hW 0 1 (a + 1) r Mx4 ?_
  rw [if_neg (by decide)]
  have A5 := AM_p A4 hp (by simp only [List.length_cons, List.length_nil]; omega)
  refine x_138 (AM_V A4).1 (ER_st hE4).1 (ER_st hE4).2 ?_
  have A45 := AM_p A4 (PXL_1 (v := 34) hE4.2.2.2.2.2.2.1 h01 (PXL_0 (b := b) (M := Mx4))) (by simp only [List.length_cons, List.length_nil]; omega)
  refine x_138 (AM_V A45).1 (ER_st (AM_E A45)).1 (ER_st (AM_E A45)).2 ?_
  have A6 := AM_up (r := 206) (v := Mq3 6 104) (AM_up (r := 205) (v := r) (AM_em (w := 3) (p := Mx 71 a) A5 q475) (by decide) (rfl : Mq 6 75 = Mq 6 75)) (by decide) (rfl : Mq 6 75 = Mq 6 75)
  have hSe : acS (Mx 70) dec o a = tS (Mx 70) 259 a4 := by rw [hsyn, gS_e h12, Option.bind_some, tS_e k1' h13, Option.bind_some, hS4, Option.bind_some]
  refine y_end A6 (fun hb => by have := hS hb; rw [hS4, Option.bind_some] at this; exact this) pre (by omega) (by omega) ?_ ?_ ?_ (fun hb h0 => ?_) (fun Mx' Mq' a' hA hs hq => ⟨.inl rfl, ri_i (hK Mx' Mq' a' hA (by rw [hSe]; exact hs) hq)⟩) hQ
  · rw [up_ne (by decide), up_ne (by decide), em_75, q475]
  · simp only [List.length_cons, List.length_nil]; omega
  · exact ⟨by rw [up_ne (by decide), up_ne (by decide), ← q475, em_204], by rw [up_ne (by decide), up_ne (by decide), ← q475, em_203], fun h => absurd h (by decide)⟩
  · have h13 : Mq4 6 13 = 0 := by rw [up_ne (by decide), up_ne (by decide), em_6 (by decide)] at h0; exact h0
    obtain ⟨h313, t, ht, hx4⟩ := hW4.2.2.2.2.2.2.2.2.2 hb h13
    have hk0 := hz3 hb h313
    have hr0 : r ≠ -1 := fun e => by rw [if_pos e] at hkk; omega
    have ht1 : t = 1 := by have := ht (by decide); omega
    have hp4 := hp.2.2.2.1 hb
    obtain ⟨s1, s2, _⟩ := hp4.2
    have e53 : Mx3 5 3 = Mx 5 3 := by rw [← hX3, Xn_r (by decide), nX_ne (by decide), nX_ne (by decide)]
    have e61 : Mq3 6 61 = Mq 6 61 := by rw [← hQ3, Qn_6 (by decide) (by decide), nx_6 (by decide), nx_6 (by decide)]
    rw [e53, e61, ht1] at hx4
    have ee := EXP_le hx4
    have tbq : tb_ Mq4 (up_ (up_ (em_ Mq4 3 (Mx 71 a)) 205 (Mq 6 75) r) 206 (Mq 6 75) (Mq3 6 104)) := QC_tb (QC_tr (QC_tr em_QC (QC_ur (by decide) (by decide))) (QC_ur (by decide) (by decide)))
    have e173 : up_ (up_ (em_ Mq4 3 (Mx 71 a)) 205 (Mq 6 75) r) 206 (Mq 6 75) (Mq3 6 104) 173 (Mq 6 61) = Mq 173 (Mq 6 61) := by rw [tbq.2.1, (QC_tb (AM_Q A4)).2.1]
    refine .inr (.inr (.inl ⟨?_, ?_, Mx4 5 3, ?_, ?_, ?_, ?_⟩))
    · rw [up_ne (by decide), up_ne (by decide), ← q475, em_203]
    · rw [up_ne (by decide), up_at, e173]; omega
    · rw [up_at]
      refine EXP_c hx4 (fun i x y => hp.2.2.2.2.1 i (by omega)) (fun i x y => by rw [up_ne (by decide), up_ne (by decide), up_ne (by decide), up_ne (by decide), em_r (.inr (by decide)) (by decide), em_r (.inr (by decide)) (by decide)]; exact ⟨rfl, rfl⟩) tbq (by rw [up_ne (by decide), up_ne (by decide), em_6 (by decide)]; omega)
    · simpa using s2
    · rw [up_ne (by decide), up_at]; exact s1
    · rw [hp4.1]; rfl
end AS
end T104_as
section T105_ag
/-! gets: the variable -/
section AG
variable {d dq n : Nat} {b F : Int} {Mx Mq Mx1 Mq1 M : mm_} {a a1 o o1 s z : Int} {K : Int → mm_ → Prop} {Kv : mm_ → Prop} {Qt : qt_} {Qr : qr_} {dec : Int → Option Int} {V : vv_}
/-- whether a variable is an array -/
def arr_ (Mq : mm_) (r : Int) : Int := if r = -1 then 0 else if Mq 183 (8 * Mq 6 61 + r) ≤ 0 then 0 else 1
def k4g_ (r : Int) : Int := if r = -1 then 4 else 0
def k5_g (Mq : mm_) (r idx : Int) : Int := if r = -1 then 0 else if arr_ Mq r = idx then 0 else 5
theorem y_n5 [Inhabited gh_] {t r ar idx kk : Int} {A : mm_ → Prop} (hE : ER b F Mx1 Mq1 a1 o1) (ht : 0 ≤ t ∧ t < 1202) (hr : kk = if r = -1 then 0 else if ar = idx then 0 else 5) (h : A (Xn_ Mx1 b kk t)) : bl_ (Mx1 1 8) → (if Mx1 1 8 = 0 then A Mx1 else (if r = -1 then A Mx1 else (if ar = idx then A Mx1 else Tr_ wd0 pg0 (d + 1) 116 [.inr (.inr 1), .inl 5, .inl t] Mx1 (rv_ A) Qt))) := by
  intro _
  have h8 := hE.2.2.2.2.2.2.1
  have h01 := hE.2.2.2.2.2.2.2.2.1
  unfold Xn_ at h
  by_cases c : Mx1 1 8 = 0
  · rw [if_pos c]
    rw [if_pos (.inl (by omega))] at h; exact h
  · rw [if_neg c]
    by_cases c2 : r = -1
    · rw [if_pos c2]
      rw [if_pos c2] at hr
      rw [if_pos (.inr hr)] at h; exact h
    · rw [if_neg c2]
      rw [if_neg c2] at hr
      by_cases c3 : ar = idx
      · rw [if_pos c3]
        rw [if_pos c3] at hr
        rw [if_pos (.inr hr)] at h; exact h
      · rw [if_neg c3]
        rw [if_neg c3] at hr
        rw [if_neg (by omega), hr] at h
        exact x_116 ht.1 ht.2 (ER_fl hE).1 (ER_fl hE).2 h
/-- X: gets up to the index -/
theorem l_144a [Inhabited gh_] {D : Nat} {idx r : Int} (h : TA b F Mx Mq a o) (hk : Mx 70 a = 100) (h12 : a < 1200) (hE1 : ER b F (nX_ Mx) (nx_ Mq) (a + 1) o) (hV : Cl_ wd0 (Tr_ wd0 pg0 (D + 4)) V Qr Qt m_144) (hW : Wk_ V) (hi : (idx = 1 ∧ Mx 70 (a + 1) = 291) ∨ (idx = 0 ∧ Mx 70 (a + 1) ≠ 291)) (hr : r = vrr Mq (Mq 151 a))
    (hg : V 96 [rr 1, ii a, ii r, ii (8 * Mq 6 61 + r), ii (arr_ Mq r), ii idx] [] (Xn_ (Xn_ (nX_ Mx) b (k4g_ r) a) b (k5_g Mq r idx) a)) :
    Tr_ wd0 pg0 (D + 4) 128 [.inr (.inr 1), .inl a] (nX_ Mx) (ri_ fun v2 M2 =>
   (if v2 = (-1) then
    (bl_ (M2 1 8) → (if M2 1 8 = 0 then
     V 63 [rr 1, ii a, ii v2, ii (w32 ((w32 (8 * (M2 1 18))) + v2)), ii 0, none] [] M2
    else
     (if v2 = (-1) then
      Tr_ wd0 pg0 (D + 4) 116 [.inr (.inr 1), .inl 4, .inl a] M2 (rv_ fun M3 =>
       V 63 [rr 1, ii a, ii v2, ii (w32 ((w32 (8 * (M2 1 18))) + v2)), ii 0, none] [] M3) Qt
     else
      V 63 [rr 1, ii a, ii v2, ii (w32 ((w32 (8 * (M2 1 18))) + v2)), ii 0, none] [] M2)))
   else
    M2 1 2 = 5 ∧
     (0 ≤ w32 ((w32 (8 * (M2 1 18))) + v2) ∧ w32 ((w32 (8 * (M2 1 18))) + v2) < 48) ∧
     (if M2 131 (w32 ((w32 (8 * (M2 1 18))) + v2)) ≤ 0 then
     (bl_ (M2 1 8) → (if M2 1 8 = 0 then
      V 63 [rr 1, ii a, ii v2, ii (w32 ((w32 (8 * (M2 1 18))) + v2)), ii 0, none] [] M2
     else
      (if v2 = (-1) then
       Tr_ wd0 pg0 (D + 4) 116 [.inr (.inr 1), .inl 4, .inl a] M2 (rv_ fun M4 =>
        V 63 [rr 1, ii a, ii v2, ii (w32 ((w32 (8 * (M2 1 18))) + v2)), ii 0, none] [] M4) Qt
      else
       V 63 [rr 1, ii a, ii v2, ii (w32 ((w32 (8 * (M2 1 18))) + v2)), ii 0, none] [] M2)))
    else
     (bl_ (M2 1 8) → (if M2 1 8 = 0 then
      V 63 [rr 1, ii a, ii v2, ii (w32 ((w32 (8 * (M2 1 18))) + v2)), ii 1, none] [] M2
     else
      (if v2 = (-1) then
       Tr_ wd0 pg0 (D + 4) 116 [.inr (.inr 1), .inl 4, .inl a] M2 (rv_ fun M5 =>
        V 63 [rr 1, ii a, ii v2, ii (w32 ((w32 (8 * (M2 1 18))) + v2)), ii 1, none] [] M5) Qt
      else
       V 63 [rr 1, ii a, ii v2, ii (w32 ((w32 (8 * (M2 1 18))) + v2)), ii 1, none] [] M2)))))) Qt := by
  have A0 := AM_rf h
  have A1 := AM_go A0 hE1
  have hga := (AM_E A0).1
  have hnm : nm9_ (nX_ Mx) a := ⟨gd_c (AM_70 A1) hga, by rw [AM_70 A1]; exact hk⟩
  refine x_128R (AM_T A1) (AM_V A1) hnm ?_
  rw [show nx_ Mq 151 = Mq 151 from nx_ne (by decide), vrr_c nx_QF, ← hr]
  have hV9 := h.2.1
  have hrr := vrr_r (Mx := Mx) (Mq := Mq) hV9 (v := Mq 151 a)
  rw [← hr] at hrr
  have h18 : nX_ Mx 1 18 = Mq 6 61 := by rw [nX_1 (by decide)]; exact hV9.2.1.symm
  have hT0 : 0 ≤ Mq 6 61 ∧ Mq 6 61 < 6 := by rw [hV9.2.1]; exact ⟨hV9.2.2.1, hV9.2.2.2.1⟩
  have hv8 : Mq 171 (Mq 6 61) ≤ 8 := by have := hV9.2.2.2.2.1; rw [hV9.2.1, this.2.2]; exact this.2.1
  have ew : w32 (w32 (8 * nX_ Mx 1 18) + r) = 8 * Mq 6 61 + r := by rw [h18, w32_id (x := 8 * Mq 6 61) (by omega) (by omega), w32_id (by omega) (by omega)]
  rw [ew]
  have hae := ER_a (AM_E A0)
  have hk4 : k4g_ r = 0 ∨ (3 ≤ k4g_ r ∧ k4g_ r ≤ 6) := by unfold k4g_; split <;> omega
  have A2 := (AM_m (k := k4g_ r) (tk := a) A1 hk4 hga (by omega)).1
  -- from V 63 on
  have fin : V 63 [rr 1, ii a, ii r, ii (8 * Mq 6 61 + r), ii (arr_ Mq r), none] [] (Xn_ (nX_ Mx) b (k4g_ r) a) := by
    refine b_144_63 (Tr_mono _) hV hW a r (8 * Mq 6 61 + r) (arr_ Mq r) _ ?_
    have e70 := AM_70 A2
    have key : ∀ v1 : Int, v1 = idx → (bl_ (Xn_ (nX_ Mx) b (k4g_ r) a 1 8) → (if Xn_ (nX_ Mx) b (k4g_ r) a 1 8 = 0 then V 96 [rr 1, ii a, ii r, ii (8 * Mq 6 61 + r), ii (arr_ Mq r), ii v1] [] (Xn_ (nX_ Mx) b (k4g_ r) a) else (if r = (-1) then V 96 [rr 1, ii a, ii r, ii (8 * Mq 6 61 + r), ii (arr_ Mq r), ii v1] [] (Xn_ (nX_ Mx) b (k4g_ r) a) else (if arr_ Mq r = v1 then V 96 [rr 1, ii a, ii r, ii (8 * Mq 6 61 + r), ii (arr_ Mq r), ii v1] [] (Xn_ (nX_ Mx) b (k4g_ r) a) else Tr_ wd0 pg0 (D + 4) 116 [.inr (.inr 1), .inl 5, .inl a] (Xn_ (nX_ Mx) b (k4g_ r) a) (rv_ fun M2 => V 96 [rr 1, ii a, ii r, ii (8 * Mq 6 61 + r), ii (arr_ Mq r), ii v1] [] M2) Qt)))) := by
      intro v1 hv1
      subst hv1
      exact y_n5 (d := D + 3) (A := fun M => V 96 [rr 1, ii a, ii r, ii (8 * Mq 6 61 + r), ii (arr_ Mq r), ii v1] [] M) (AM_E A2) (by omega) rfl hg
    refine y_117 (d := D + 3) (AM_E A2) (by decide) (fun e => key 1 ?_) (fun e => key 0 ?_)
    · rw [e70, show skk_ 91 = 291 from rfl] at e; omega
    · rw [e70, show skk_ 91 = 291 from rfl] at e; omega
  have ar0 : ∀ x : Int, x = arr_ Mq r → (bl_ (nX_ Mx 1 8) → (if nX_ Mx 1 8 = 0 then V 63 [rr 1, ii a, ii r, ii (8 * Mq 6 61 + r), ii x, none] [] (nX_ Mx) else (if r = (-1) then Tr_ wd0 pg0 (D + 4) 116 [.inr (.inr 1), .inl 4, .inl a] (nX_ Mx) (rv_ fun M3 => V 63 [rr 1, ii a, ii r, ii (8 * Mq 6 61 + r), ii x, none] [] M3) Qt else V 63 [rr 1, ii a, ii r, ii (8 * Mq 6 61 + r), ii x, none] [] (nX_ Mx)))) := by
    intro x hx
    subst hx
    exact y_n4 (d := D + 3) (A := fun M => V 63 [rr 1, ii a, ii r, ii (8 * Mq 6 61 + r), ii (arr_ Mq r), none] [] M) hE1 (by omega) rfl fin
  by_cases c : r = -1
  · rw [if_pos c]
    exact ar0 0 (by unfold arr_; rw [if_pos c])
  · rw [if_neg c]
    have e131 : nX_ Mx 131 (8 * Mq 6 61 + r) = Mq 183 (8 * Mq 6 61 + r) := by
      rw [nX_ne (by decide), hV9.2.1]
      have := hV9.2.2.2.2.2.2.1 r (by omega) (by have := hV9.2.2.2.2.1.2.2; rw [hV9.2.1] at hrr; omega)
      exact this.2.2.2.1
    rw [e131]
    refine ⟨(AM_V A1).1, by omega, ?_⟩
    by_cases c2 : Mq 183 (8 * Mq 6 61 + r) ≤ 0
    · rw [if_pos c2]; exact ar0 0 (by unfold arr_; rw [if_neg c, if_pos c2])
    · rw [if_neg c2]; exact ar0 1 (by unfold arr_; rw [if_neg c, if_neg c2])
/-- Q: assign up to the index -/
theorem q_302a [Inhabited gh_] {idx r : Int} (h : TA b F Mx Mq a o) (hk : Mx 70 a = 100) (h12 : a < 1200) (hE1 : ER b F (nX_ Mx) (nx_ Mq) (a + 1) o) (hi : (idx = 1 ∧ Mx 70 (a + 1) = 291) ∨ (idx = 0 ∧ Mx 70 (a + 1) ≠ 291)) (hr : r = vrr Mq (Mq 151 a))
    (hg : ∀ V : vv_, Cl_ wd0 (Tr_ wd0 pg0 (d + 4)) V (rv_ fun M1 => rv_ Kv [] M1) Qt m_302 → Wk_ V → V 99 [rr 6, ii (Mx 71 a), ii a, ii (vq_ Mq r), ii idx, none, none, none, none] [] (Qn_ (Qn_ (nx_ Mq) b (k4g_ r) (Mx 71 a)) b (k5_g Mq r idx) (Mx 71 a))) :
    Tr_ wd0 pg0 (d + 6) 296 [.inr (.inr 6)] Mq (rv_ Kv) Qt := by
  have A0 := AM_rf h
  have A1 := AM_go A0 hE1
  have hE := AM_E A0
  have hT := AM_T A0
  have hga := hE.1
  have h01 := hE.2.2.2.2.2.2.2.2.1
  have hae := ER_a hE
  have hp0 : Mq 150 (Mq 6 12) = Mx 71 a := (ER_k hT hE).2.1
  have hpa : nx_ Mq 150 a = Mx 71 a := by rw [nx_ne (by decide), ← hp0, hE.2.2.1]
  have hV9 := h.2.1
  have hrr := vrr_r (Mx := Mx) (Mq := Mq) hV9 (v := Mq 151 a)
  rw [← hr] at hrr
  have hT0 : 0 ≤ Mq 6 61 ∧ Mq 6 61 < 6 := by rw [hV9.2.1]; exact ⟨hV9.2.2.1, hV9.2.2.2.1⟩
  have hv8 : Mq 171 (Mq 6 61) ≤ 8 := by have := hV9.2.2.2.2.1; rw [hV9.2.1, this.2.2]; exact this.2.1
  have hk4 : k4g_ r = 0 ∨ (3 ≤ k4g_ r ∧ k4g_ r ≤ 6) := by unfold k4g_; split <;> omega
  have A2 := (AM_m (k := k4g_ r) (tk := a) A1 hk4 hga (by omega)).1
  refine t_296 fun V hV hW => b_296_0 (Tr_mono _) hV hW Mq ⟨(ER_k hT hE).2.2.1, j_228f hT hE (by decide) (by omega) ?_⟩
  rw [if_pos rfl]
  refine j_228f hT hE (by decide) (by omega) ?_
  rw [if_pos rfl]
  refine j_228f hT hE (by decide) (by omega) ?_
  rw [if_pos rfl]
  refine j_228f hT hE (by decide) (by omega) ?_
  rw [if_pos rfl, hp0]
  refine t_302 fun V hV hW => b_302_0 (Tr_mono _) hV hW (Mx 71 a) Mq ?_
  have hg9 := hg V hV hW
  refine j_233t hT hE hk h12 ?_
  refine q_227g (ER_goq hE1) ?_
  rw [if_pos rfl]
  refine ⟨by omega, q_276R (AM_V A1) ?_⟩
  rw [show nx_ Mq 151 = Mq 151 from nx_ne (by decide), vrr_c nx_QF, ← hr, show nx_ Mq 6 61 = Mq 6 61 from nx_6 (by decide), show (if r = -1 then -1 else 8 * Mq 6 61 + r) = vq_ Mq r from rfl]
  have vq0 : vq_ Mq r < 0 ↔ r = -1 := by unfold vq_; split <;> omega
  -- from V 58 on
  have fin : V 58 [rr 6, ii (Mx 71 a), ii a, ii (vq_ Mq r), ii idx, none, none, none, none] [] (Qn_ (nx_ Mq) b (k4g_ r) (Mx 71 a)) := by
    refine b_302_58 (Tr_mono _) hV hW (Mx 71 a) a (vq_ Mq r) idx _ ?_
    intro _
    have e16 : Qn_ (nx_ Mq) b (k4g_ r) (Mx 71 a) 6 16 = b := (AM_E A2).2.2.2.2.2.2.2.1
    have e183 : Qn_ (nx_ Mq) b (k4g_ r) (Mx 71 a) 183 = Mq 183 := by rw [Qn_r (by decide), nx_ne (by decide)]
    have e150 : Qn_ (nx_ Mq) b (k4g_ r) (Mx 71 a) 150 a = Mx 71 a := by rw [Qn_r (by decide)]; exact hpa
    rw [e16, e183, e150]
    generalize hM : Qn_ (nx_ Mq) b (k4g_ r) (Mx 71 a) = M9 at *
    unfold Qn_ at hg9
    by_cases cb : b = 0
    · rw [if_pos cb]; rw [if_pos (.inl cb)] at hg9; exact hg9
    · rw [if_neg cb]
      by_cases c : r = -1
      · rw [if_pos (vq0.mpr c)]
        rw [if_pos (.inr (by unfold k5_g; rw [if_pos c]))] at hg9; exact hg9
      · have ev : vq_ Mq r = 8 * Mq 6 61 + r := by unfold vq_; rw [if_neg c]
        rw [if_neg (fun e => c (vq0.mp e))]
        refine ⟨by omega, ?_⟩
        have ea : arr_ Mq r = if Mq 183 (vq_ Mq r) ≤ 0 then 0 else 1 := by unfold arr_; rw [if_neg c, ev]
        have e5 : k5_g Mq r idx = if arr_ Mq r = idx then 0 else 5 := by unfold k5_g; rw [if_neg c]
        by_cases c2 : Mq 183 (vq_ Mq r) ≤ 0
        · rw [if_pos c2]
          rw [if_pos c2] at ea
          rw [ea] at e5
          by_cases c3 : idx = 0
          · rw [if_pos c3]
            rw [if_pos c3.symm] at e5
            rw [if_pos (.inr e5)] at hg9; exact hg9
          · rw [if_neg c3]
            rw [if_neg (fun e => c3 e.symm)] at e5
            rw [if_neg (by omega), e5] at hg9
            exact ⟨by omega, q_236 hg9⟩
        · rw [if_neg c2]
          rw [if_neg c2] at ea
          rw [ea] at e5
          by_cases c3 : idx = 1
          · rw [if_pos c3]
            rw [if_pos c3.symm] at e5
            rw [if_pos (.inr e5)] at hg9; exact hg9
          · rw [if_neg c3]
            rw [if_neg (fun e => c3 e.symm)] at e5
            rw [if_neg (by omega), e5] at hg9
            exact ⟨by omega, q_236 hg9⟩
  have e70 := AM_70 A1
  have key : ∀ v4 : Int, v4 = idx → (bl_ (nx_ Mq 6 16) → (if nx_ Mq 6 16 = 0 then V 58 [rr 6, ii (Mx 71 a), ii a, ii (vq_ Mq r), ii v4, none, none, none, none] [] (nx_ Mq) else (if vq_ Mq r < 0 then (0 ≤ a ∧ a < 1202) ∧ Tr_ wd0 pg0 (d + 4) 236 [.inr (.inr 6), .inl 4, .inl (nx_ Mq 150 a)] (nx_ Mq) (rv_ fun M5 => V 58 [rr 6, ii (Mx 71 a), ii a, ii (vq_ Mq r), ii v4, none, none, none, none] [] M5) Qt else V 58 [rr 6, ii (Mx 71 a), ii a, ii (vq_ Mq r), ii v4, none, none, none, none] [] (nx_ Mq)))) := by
    intro v4 hv4
    subst hv4
    intro _
    have e16 : nx_ Mq 6 16 = b := hE1.2.2.2.2.2.2.2.1
    rw [e16]
    unfold Qn_ at fin
    by_cases cb : b = 0
    · rw [if_pos cb]; rw [if_pos (.inl cb)] at fin; exact fin
    · rw [if_neg cb]
      by_cases c : r = -1
      · rw [if_pos (vq0.mpr c)]
        have e4 : k4g_ r = 4 := by unfold k4g_; rw [if_pos c]
        rw [if_neg (by omega), e4] at fin
        rw [hpa]
        exact ⟨by omega, q_236 fin⟩
      · have e4 : k4g_ r = 0 := by unfold k4g_; rw [if_neg c]
        rw [if_pos (.inr e4)] at fin
        rw [if_neg (fun e => c (vq0.mp e))]; exact fin
  rcases hi with ⟨i1, i2⟩ | ⟨i1, i2⟩
  · exact j_237t (AM_T A1) hE1 (by decide) (by rw [e70]; exact i2) (key 1 i1.symm)
  · exact j_237f (AM_T A1) hE1 (by decide) (by rw [e70]; exact i2) (key 0 i1.symm)
end AG
end T105_ag
section T106_ag
/-! gets: from the sign on -/
section AG
variable {d dq n : Nat} {b F : Int} {Mx Mq Mx5 Mq5 M : mm_} {a a5 o s5 z5 : Int} {K : Int → mm_ → Prop} {Kv G : mm_ → Prop} {Qt : qt_} {V : vv_} {r idx e : Int}
/-- what is known of the index when gets comes to its sign -/
def IDX (b : Int) (Mx Mq Mx5 Mq5 : mm_) (r idx e : Int) : Prop := b = 1 → Mq5 6 13 = 0 → r ≠ -1 ∧ ((idx = 0 ∧ e = -1 ∧ Mq 183 (8 * Mq 6 61 + r) = 0 ∧ Mx5 5 3 = Mx 5 3) ∨ (idx = 1 ∧ 0 < Mq 183 (8 * Mq 6 61 + r) ∧ ∃ c0, EXP Mx5 Mq5 (Mq 6 61) (Mx 5 3) c0 e (Mq5 6 104) 1 ∧ Mx5 142 c0 = 45 ∧ Mx5 142 (c0 + 1) = Mq 183 (8 * Mq 6 61 + r) ∧ Mx5 5 3 = c0 + 2))
theorem q_302st [Inhabited gh_] {p v : Int} (hV : Cl_ wd0 (Tr_ wd0 pg0 (d + 2)) V (rv_ fun M1 => rv_ Kv [] M1) Qt m_302) (hW : Wk_ V) {x2 x4 x5 x6 : Int} (hs : sp_ M) (h : Kv M) : V 149 [rr 6, ii p, ii x2, ii v, ii x4, ii x5, ii x6, none, none] [] M := by
  refine b_302_149 (Tr_mono _) hV hW p x2 v x4 x5 x6 M ?_
  refine q_270s hs ?_
  refine q_227s hs ?_
  rw [if_neg (by decide)]
  exact rv_i (rv_i h)
theorem l_144c [Inhabited gh_] (hn : n ≤ 12) (ho : o = 12 - (n : Int)) (A5 : AM b F Mx Mq Mx5 Mq5 a a5 o s5 z5) (haa : a + 1 ≤ a5) (hz : 0 ≤ z5) (hs5 : s5 ≤ 2) (h75 : Mq5 6 75 = Mq 6 75)
    (hr : r = -1 ∨ (0 ≤ r ∧ r < Mq 171 (Mq 6 61))) (hi : idx = 0 ∨ idx = 1)
    (hS : b = 1 → ((tS (Mx 70) 110 a5).bind fun a6 => (ES (Mx 70) 0 o a6).bind (tS (Mx 70) 259)) ≠ none)
    (hidx : IDX b Mx Mq Mx5 Mq5 r idx e)
    (pre : ∀ (Kv : mm_ → Prop) (Qtq : qt_), (∀ V : vv_, Cl_ wd0 (Tr_ wd0 pg0 (dq + 12)) V (rv_ fun M1 => rv_ Kv [] M1) Qtq m_302 → Wk_ V → Tr_ wd0 pg0 (dq + 12) 244 [.inr (.inr 6), .inl 256] Mq5 (rv_ fun M1 => (if vq_ Mq r < 0 then V 149 [rr 6, ii (Mx 71 a), ii a, ii (vq_ Mq r), ii idx, ii e, ii 0, none, none] [] M1 else (0 ≤ vq_ Mq r ∧ vq_ Mq r < 48) ∧ V 149 [rr 6, ii (Mx 71 a), ii a, ii (vq_ Mq r), ii idx, ii e, ii (M1 182 (vq_ Mq r)), none, none] [] M1)) Qtq) → Tr_ wd0 pg0 (dq + 14) 296 [.inr (.inr 6)] Mq (rv_ Kv) Qtq)
    (hV : Cl_ wd0 (Tr_ wd0 pg0 (9 * n + 14)) V (rv_ fun M12 => Tr_ wd0 pg0 (9 * n + 15) 121 [.inr (.inr 1), .inl 59] M12 (rv_ G) Qt) Qt m_144) (hW : Wk_ V)
    (hK : ∀ Mx' Mq' a', AR b F Mx Mq Mx' Mq' a a' o 1 0 → ((tS (Mx 70) 110 a5).bind fun a6 => (ES (Mx 70) 0 o a6).bind (tS (Mx 70) 259)) = some a' → (∀ (Kv : mm_ → Prop) (Qtq : qt_), Kv Mq' → Tr_ wd0 pg0 (dq + 14) 296 [.inr (.inr 6)] Mq (rv_ Kv) Qtq) → G Mx')
    (hQ : b = 0 → ∀ Mx', XA Mx Mx' → (∀ (Kv : mm_ → Prop) (Qtq : qt_), (∀ M', SQ Mx' Mq M' → Kv M') → Tr_ wd0 pg0 (dq + 14) 296 [.inr (.inr 6)] Mq (rv_ Kv) Qtq) → Qt 8 Mx') :
    V 158 [rr 1, ii a, ii r, ii (8 * Mq 6 61 + r), ii (arr_ Mq r), ii idx] [] Mx5 := by
  have hE := AM_E A5
  have hT := AM_T A5
  have e70 := AM_70 A5
  have e71 := AM_71 A5
  have h01 := hE.2.2.2.2.2.2.2.2.1
  have hV9 := A5.1.2.1
  have hT0 : 0 ≤ Mq 6 61 ∧ Mq 6 61 < 6 := by rw [hV9.2.1]; exact ⟨hV9.2.2.1, hV9.2.2.2.1⟩
  have hv8 : Mq 171 (Mq 6 61) ≤ 8 := by have := hV9.2.2.2.2.1; rw [hV9.2.1, this.2.2]; exact this.2.1
  have vq0 : vq_ Mq r < 0 ↔ r = -1 := by unfold vq_; split <;> omega
  have hc := A5.1.2.2.2.1
  have hae := ER_a A5.1.2.2.1
  refine b_144_158 (Tr_mono _) hV hW a r (8 * Mq 6 61 + r) (arr_ Mq r) idx Mx5 ?_
  refine y_108 hE (by decide) (fun hb => by rw [e70]; intro c; have := hS hb; rw [c] at this; exact this rfl) (fun k1 h12 hE6 => ?_) (fun hb k1 h12 => ?_) (fun hb k1 => ?_)
  rotate_left
  · refine hQ hb _ (XA_tr (XC_XA (AM_X A5)) (XF_XA fl_XF)) fun Kv Qtq hk9 => pre _ _ fun V hV hW => j_244r hT hE hb (by decide) k1 h12 ?_
    have hsp := SQ_bf hE hb (k := 2) (by decide) (QC_QA (AM_Q A5))
    by_cases c : vq_ Mq r < 0
    · rw [if_pos c]; exact q_302st hV hW hsp.1 (hk9 _ hsp)
    · rw [if_neg c]; exact ⟨by unfold vq_ at *; split at c <;> (rename_i c2; first | rw [if_pos c2] | rw [if_neg c2]) <;> omega, q_302st hV hW hsp.1 (hk9 _ hsp)⟩
  · refine hQ hb _ (XA_tr (XC_XA (AM_X A5)) (XF_XA fl_XF)) fun Kv Qtq hk9 => pre _ _ fun V hV hW => j_244w hT hE hb (by decide) k1 ?_
    have hsp := SQ_bf hE hb (k := 1) (by decide) (QC_QA (AM_Q A5))
    by_cases c : vq_ Mq r < 0
    · rw [if_pos c]; exact q_302st hV hW hsp.1 (hk9 _ hsp)
    · rw [if_neg c]; exact ⟨by unfold vq_ at *; split at c <;> (rename_i c2; first | rw [if_pos c2] | rw [if_neg c2]) <;> omega, q_302st hV hW hsp.1 (hk9 _ hsp)⟩
  have A6 := AM_go A5 hE6
  have m70 := AM_70 A6
  have k1' : Mx 70 a5 = 110 := by rw [← e70]; exact k1
  have hSq : ((tS (Mx 70) 110 a5).bind fun a6 => (ES (Mx 70) 0 o a6).bind (tS (Mx 70) 259)) = (ES (Mx 70) 0 o (a5 + 1)).bind (tS (Mx 70) 259) := by rw [tS_e k1' h12, Option.bind_some]
  rw [hSq] at hS
  generalize hX6 : nX_ Mx5 = Mx6 at *
  generalize hQ6 : nx_ Mq5 = Mq6 at *
  have q182 : Mq6 182 = Mq 182 := (QC_tb (AM_Q A6)).2.2.1
  -- the sort that is wanted
  obtain ⟨w, hw⟩ : ∃ w, w = if r = -1 then (-1 : Int) else Mx6 130 (8 * Mq 6 61 + r) := ⟨_, rfl⟩
  have hvt : r ≠ -1 → Mx 130 (8 * Mq 6 61 + r) + 1 = Mq 182 (8 * Mq 6 61 + r) ∧ Mx 132 (8 * Mq 6 61 + r) = Mq 184 (8 * Mq 6 61 + r) ∧ 0 ≤ Mx 130 (8 * Mq 6 61 + r) ∧ Mx 130 (8 * Mq 6 61 + r) ≤ 2 := by
    intro c
    rw [hV9.2.1]
    have := hV9.2.2.2.2.2.2.1 r (by omega) (by have := hV9.2.2.2.2.1.2.2; rw [hV9.2.1] at hr; omega)
    exact ⟨this.2.2.1, this.2.2.2.2.1, this.2.2.2.2.2.1, this.2.2.2.2.2.2.1⟩
  have x130 : Mx6 130 = Mx 130 := (AM_X A6).1 130 (by decide)
  have x132 : Mx6 132 = Mx 132 := (AM_X A6).1 132 (by decide)
  have hwr : -1 ≤ w ∧ w ≤ 2 := by
    rw [hw]; split
    · omega
    · rename_i c; have := hvt c; rw [x130]; omega
  have hwq : r ≠ -1 → w + 1 = Mq 182 (vq_ Mq r) := by
    intro c; have := hvt c; rw [hw, if_neg c, x130]; unfold vq_; rw [if_neg c]; omega
  -- Q up to the e
  have pre0 : ∀ (Kv : mm_ → Prop) (Qtq : qt_), (∀ V : vv_, Cl_ wd0 (Tr_ wd0 pg0 (dq + 12)) V (rv_ fun M1 => rv_ Kv [] M1) Qtq m_302 → Wk_ V → V 149 [rr 6, ii (Mx 71 a), ii a, ii (vq_ Mq r), ii idx, ii e, ii (w + 1), none, none] [] Mq6) → Tr_ wd0 pg0 (dq + 14) 296 [.inr (.inr 6)] Mq (rv_ Kv) Qtq := by
    intro Kv Qtq hq
    refine pre _ _ fun V hV hW => j_244t hT hE (by decide) k1 h12 ?_
    rw [hQ6]
    have := hq V hV hW
    by_cases c : r = -1
    · rw [if_pos (vq0.mpr c)]
      rw [hw, if_pos c] at this; exact this
    · rw [if_neg (fun h => c (vq0.mp h)), q182, ← hwq c]
      exact ⟨by unfold vq_; rw [if_neg c]; omega, this⟩
  have wants : Tr_ wd0 pg0 (9 * n + 14) 145 [.inr (.inr 1), .inl w] Mx6 (rv_ fun M3 => V 186 [rr 1, ii a, ii r, ii (8 * Mq 6 61 + r), ii (arr_ Mq r), ii idx] [] M3) Qt := by
    refine x_w (dq := dq) (w := w) (wq := w) hn ho hwr hwr.1 (fun _ => rfl) (AM_T A6) (AM_V A6) hE6 (AM_f A6) (fun hb => by rw [m70]; intro c; have := hS hb; rw [c] at this; exact this rfl) (fun Mx7 Mq7 a7 hW7 hS7 hq7 => ?_) (fun hb Mx' hx9 hq9 => ?_)
    rotate_left
    · refine hQ hb Mx' (XA_tr (XC_XA (AM_X A6)) (XF_XA hx9)) fun Kv Qtq hk9 => pre0 _ _ fun V hV hW => b_302_149 (Tr_mono _) hV hW _ _ _ _ _ _ _ (hq9 _ _ fun M' g1 g2 g3 g4 g5 => ?_)
      refine q_227s g1 ?_
      rw [if_neg (by decide)]
      exact rv_i (rv_i (hk9 _ ⟨g1, g2, g3, g4, QA_tr (QC_QA (AM_Q A6)) (QF_QA g5)⟩))
    have A7 := AM_w A6 hW7
    have hE7 := AM_E A7
    rw [m70] at hS7
    have q7 : ∀ i : Int, i = 61 ∨ i = 75 → Mq7 6 i = Mq6 6 i := fun i hi => hW7.2.2.1.2 i (by omega) (by omega) (by omega) (by omega) (by omega) (by omega) (by omega) (by omega) (by omega) (by omega) (by omega)
    have q675 : Mq6 6 75 = Mq 6 75 := by rw [← hQ6, nx_6 (by decide)]; exact h75
    have q775 : Mq7 6 75 = Mq 6 75 := by rw [q7 75 (.inr rfl)]; exact q675
    have a7g : a5 + 1 < a7 := hW7.1
    have pre9 : ∀ (Kv : mm_ → Prop) (Qtq : qt_), Tr_ wd0 pg0 (dq + 12) 244 [.inr (.inr 6), .inl 59] (up_ (up_ (up_ (em_ Mq7 1 (Mx 71 a)) 205 (Mq 6 75) (vq_ Mq r)) 206 (Mq 6 75) e) 207 (Mq 6 75) (Mq6 6 104)) (rv_ Kv) Qtq → Tr_ wd0 pg0 (dq + 14) 296 [.inr (.inr 6)] Mq (rv_ Kv) Qtq := by
      intro Kv Qtq hq
      refine pre0 _ _ fun V hV hW => b_302_149 (Tr_mono _) hV hW _ _ _ _ _ _ _ (hq7 _ _ ?_)
      refine q_227g (ER_goq hE7) ?_
      rw [if_pos rfl]
      refine q_266 (by omega) (by omega) ?_
      rw [q775]
      exact ⟨by omega, by omega, by omega, Tr_rv (Tr_rv hq)⟩
    obtain ⟨c8, hc8⟩ : ∃ c8, c8 = if r = -1 then (0 : Int) else Mx 132 (8 * Mq 6 61 + r) := ⟨_, rfl⟩
    obtain ⟨g8, hg8⟩ : ∃ g8, g8 = if idx = 0 then (31 : Int) else 32 := ⟨_, rfl⟩
    have hp1 := PXL_1 (v := g8) hE7.2.2.2.2.2.2.1 h01 (PXL_0 (b := b) (M := Mx7))
    have hp := PXL_1 (v := c8) hE7.2.2.2.2.2.2.1 h01 hp1
    have A78 := AM_p A7 hp1 (by simp only [List.length_cons, List.length_nil]; omega)
    have A8 := AM_p A7 hp (by simp only [List.length_cons, List.length_nil]; omega)
    have A9 := AM_up (r := 207) (v := Mq6 6 104) (AM_up (r := 206) (v := e) (AM_up (r := 205) (v := vq_ Mq r) (AM_em (w := 1) (p := Mx 71 a) A8 q775) (by decide) (rfl : Mq 6 75 = Mq 6 75)) (by decide) (rfl : Mq 6 75 = Mq 6 75)) (by decide) (rfl : Mq 6 75 = Mq 6 75)
    have fin : Tr_ wd0 pg0 (9 * n + 15) 121 [.inr (.inr 1), .inl 59] (pX_ (pX_ Mx7 g8) c8) (rv_ G) Qt := by
      refine y_end A9 (fun hb => by have := hS hb; rw [hS7, Option.bind_some] at this; exact this) pre9 (by omega) (by omega) ?_ ?_ ?_ (fun hb h0 => ?_) (fun Mx' Mq' a' hA hs hq => hK Mx' Mq' a' hA (by rw [hSq, hS7, Option.bind_some]; exact hs) hq) hQ
      · rw [up_ne (by decide), up_ne (by decide), up_ne (by decide), em_75, q775]
      · simp only [List.length_cons, List.length_nil]; omega
      · exact ⟨by rw [up_ne (by decide), up_ne (by decide), up_ne (by decide), ← q775, em_204], by rw [up_ne (by decide), up_ne (by decide), up_ne (by decide), ← q775, em_203], fun h => absurd h (by decide)⟩
      · have h13 : Mq7 6 13 = 0 := by rw [up_ne (by decide), up_ne (by decide), up_ne (by decide), em_6 (by decide)] at h0; exact h0
        obtain ⟨h613, t, ht, hx7⟩ := hW7.2.2.2.2.2.2.2.2.2 hb h13
        have h513 : Mq5 6 13 = 0 := by rw [← hQ6, nx_6 (by decide)] at h613; exact h613
        obtain ⟨hr0, hid⟩ := hidx hb h513
        have ev : vq_ Mq r = 8 * Mq 6 61 + r := by unfold vq_; rw [if_neg hr0]
        have hv := hvt hr0
        have ew : w = Mx 130 (8 * Mq 6 61 + r) := by rw [hw, if_neg hr0, x130]
        have ht1 : t = Mq 182 (vq_ Mq r) := by have := ht (by omega); rw [ev]; omega
        have hp4 := hp.2.2.2.1 hb
        obtain ⟨s1, s2, _⟩ := hp4.2
        have e653 : Mx6 5 3 = Mx5 5 3 := by rw [← hX6, nX_ne (by decide)]
        have e661 : Mq6 6 61 = Mq 6 61 := (AM_Q A6).2 61 (by decide)
        rw [e661, ht1] at hx7
        have ee := EXP_le hx7
        have tbq : tb_ Mq7 (up_ (up_ (up_ (em_ Mq7 1 (Mx 71 a)) 205 (Mq 6 75) (vq_ Mq r)) 206 (Mq 6 75) e) 207 (Mq 6 75) (Mq6 6 104)) := QC_tb (QC_tr (QC_tr (QC_tr em_QC (QC_ur (by decide) (by decide))) (QC_ur (by decide) (by decide))) (QC_ur (by decide) (by decide)))
        have tbm := tb_tr (QC_tb (AM_Q A7)) tbq
        have r227 : ∀ x : Nat, x = 227 ∨ x = 228 → up_ (up_ (up_ (em_ Mq7 1 (Mx 71 a)) 205 (Mq 6 75) (vq_ Mq r)) 206 (Mq 6 75) e) 207 (Mq 6 75) (Mq6 6 104) x = Mq7 x := fun x hx => by rw [up_ne (by omega), up_ne (by omega), up_ne (by omega), em_r (.inr (by omega)) (by omega)]
        have r104 : up_ (up_ (up_ (em_ Mq7 1 (Mx 71 a)) 205 (Mq 6 75) (vq_ Mq r)) 206 (Mq 6 75) e) 207 (Mq 6 75) (Mq6 6 104) 6 104 = Mq7 6 104 := by rw [up_ne (by decide), up_ne (by decide), up_ne (by decide), em_6 (by decide)]
        have v205 : up_ (up_ (up_ (em_ Mq7 1 (Mx 71 a)) 205 (Mq 6 75) (vq_ Mq r)) 206 (Mq 6 75) e) 207 (Mq 6 75) (Mq6 6 104) 205 (Mq 6 75) = vq_ Mq r := by rw [up_ne (by decide), up_ne (by decide), up_at]
        have v206 : up_ (up_ (up_ (em_ Mq7 1 (Mx 71 a)) 205 (Mq 6 75) (vq_ Mq r)) 206 (Mq 6 75) e) 207 (Mq 6 75) (Mq6 6 104) 206 (Mq 6 75) = e := by rw [up_ne (by decide), up_at]
        have v207 : up_ (up_ (up_ (em_ Mq7 1 (Mx 71 a)) 205 (Mq 6 75) (vq_ Mq r)) 206 (Mq 6 75) e) 207 (Mq 6 75) (Mq6 6 104) 207 (Mq 6 75) = Mq6 6 104 := by rw [up_at]
        have v203 : up_ (up_ (up_ (em_ Mq7 1 (Mx 71 a)) 205 (Mq 6 75) (vq_ Mq r)) 206 (Mq 6 75) e) 207 (Mq 6 75) (Mq6 6 104) 203 (Mq 6 75) = 1 := by rw [up_ne (by decide), up_ne (by decide), up_ne (by decide), ← q775, em_203]
        have ec8 : c8 = Mq 184 (vq_ Mq r) := by rw [hc8, if_neg hr0, ev]; exact hv.2.1
        have E7 : EXP (pX_ (pX_ Mx7 g8) c8) (up_ (up_ (up_ (em_ Mq7 1 (Mx 71 a)) 205 (Mq 6 75) (vq_ Mq r)) 206 (Mq 6 75) e) 207 (Mq 6 75) (Mq6 6 104)) (Mq 6 61) (Mx6 5 3) (Mx7 5 3) (Mq6 6 104) (Mq7 6 104) (Mq 182 (vq_ Mq r)) := EXP_c hx7 (fun i x y => hp.2.2.2.2.1 i (by omega)) (fun i x y => by rw [r227 227 (.inl rfl), r227 228 (.inr rfl)]; exact ⟨rfl, rfl⟩) tbq (by omega)
        unfold OPC
        rw [v203, v205, v206, v207, r104, tbm.1, tbm.2.2.1, tbm.2.2.2.1, tbm.2.2.2.2]
        refine .inl ⟨rfl, ⟨by omega, by omega⟩, Mx7 5 3, ?_, ?_, ?_⟩
        · rw [← ec8]; exact s1
        · rw [hp4.1]; rfl
        · rcases hid with ⟨i1, i2, i3, i4⟩ | ⟨i1, i2, c0, i3, i4, i5, i6⟩
          · left
            rw [ev]
            refine ⟨i2, i3, ?_, ?_⟩
            · rw [← i4, ← e653, ← ev]; exact E7
            · have e8 : g8 = 31 := by rw [hg8, if_pos i1]
              have s3 : pX_ (pX_ Mx7 g8) c8 142 (Mx7 5 3) = g8 := by simpa using s2
              rw [s3, e8]
          · right
            have i3e := EXP_le i3
            have keep : ∀ i, 0 ≤ i → i < Mx5 5 3 → pX_ (pX_ Mx7 g8) c8 142 i = Mx5 142 i := fun i x y => by
              rw [hp.2.2.2.2.1 i (by have := hW7.2.2.2.2.2.2.1.1; omega), hW7.2.2.2.2.2.2.2.1 i x (by omega), ← hX6, nX_ne (by decide)]
            have h530 : 0 ≤ Mx 5 3 := (ER_st A5.1.2.2.1).1
            have q6t : ∀ x : Nat, x = 227 ∨ x = 228 → Mq6 x = Mq5 x := fun x hx => by rw [← hQ6, nx_ne (by omega)]
            have q6104 : Mq6 6 104 = Mq5 6 104 := by rw [← hQ6, nx_6 (by decide)]
            refine ⟨c0, by rw [ev]; exact i2, ?_, ?_, ?_, ?_, ?_⟩
            · refine EXP_c i3 (fun i x y => keep i (by omega) (by omega)) (fun i x y => ?_) ?_ ?_
              · rw [r227 227 (.inl rfl), r227 228 (.inr rfl)]
                have := hW7.2.2.2.2.2.1 i (by omega) (by omega)
                rw [this.1, this.2, q6t 227 (.inl rfl), q6t 228 (.inr rfl)]
                exact ⟨rfl, rfl⟩
              · have t5 : tb_ Mq5 Mq7 := by
                  have t1 := QC_tb (AM_Q A5)
                  have t2 := QC_tb (AM_Q A7)
                  exact ⟨t2.1.trans t1.1.symm, t2.2.1.trans t1.2.1.symm, t2.2.2.1.trans t1.2.2.1.symm, t2.2.2.2.1.trans t1.2.2.2.1.symm, t2.2.2.2.2.trans t1.2.2.2.2.symm⟩
                exact tb_tr t5 tbq
              · have := hW7.2.2.2.2.1.1; omega
            · rw [keep c0 (by omega) (by omega)]; exact i4
            · rw [keep (c0 + 1) (by omega) (by omega), ev]; exact i5
            · rw [show c0 + 2 = Mx6 5 3 by omega]; exact E7
            · have e8 : g8 = 32 := by rw [hg8, if_neg (by omega)]
              have s3 : pX_ (pX_ Mx7 g8) c8 142 (Mx7 5 3) = g8 := by simpa using s2
              rw [s3, e8]
    refine b_144_186 (Tr_mono _) hV hW a r (8 * Mq 6 61 + r) (arr_ Mq r) idx Mx7 ?_
    have x132' : pX_ Mx7 g8 132 = Mx 132 := (AM_X A78).1 132 (by decide)
    have h12' : pX_ Mx7 g8 1 2 = 5 := (AM_V A78).1
    have last : (if r = (-1) then Tr_ wd0 pg0 (9 * n + 14) 138 [.inr (.inr 1), .inl 0] (pX_ Mx7 g8) (rv_ fun M3 => (rv_ fun M12 => Tr_ wd0 pg0 (9 * n + 15) 121 [.inr (.inr 1), .inl 59] M12 (rv_ G) Qt) [] M3) Qt else pX_ Mx7 g8 1 2 = 5 ∧ (0 ≤ 8 * Mq 6 61 + r ∧ 8 * Mq 6 61 + r < 48) ∧ Tr_ wd0 pg0 (9 * n + 14) 138 [.inr (.inr 1), .inl (pX_ Mx7 g8 132 (8 * Mq 6 61 + r))] (pX_ Mx7 g8) (rv_ fun M2 => (rv_ fun M12 => Tr_ wd0 pg0 (9 * n + 15) 121 [.inr (.inr 1), .inl 59] M12 (rv_ G) Qt) [] M2) Qt) := by
      by_cases c : r = -1
      · rw [if_pos c]
        rw [if_pos c] at hc8
        refine x_138 h12' (ER_st (AM_E A78)).1 (ER_st (AM_E A78)).2 ?_
        rw [← hc8]; exact rv_i fin
      · rw [if_neg c]
        rw [if_neg c] at hc8
        refine ⟨h12', by omega, x_138 h12' (ER_st (AM_E A78)).1 (ER_st (AM_E A78)).2 ?_⟩
        rw [x132', ← hc8]; exact rv_i fin
    rcases hi with hi | hi
    · rw [if_pos hi]
      rw [if_pos hi] at hg8
      refine x_138 (AM_V A7).1 (ER_st hE7).1 (ER_st hE7).2 ?_
      rw [← hg8]; exact last
    · rw [if_neg (by omega)]
      rw [if_neg (by omega)] at hg8
      refine x_138 (AM_V A7).1 (ER_st hE7).1 (ER_st hE7).2 ?_
      rw [← hg8]; exact last
  by_cases c : r = -1
  · rw [if_pos c]
    rw [if_pos c] at hw
    rw [hw] at wants
    exact wants
  · rw [if_neg c]
    rw [if_neg c] at hw
    rw [hw] at wants
    exact ⟨(AM_V A6).1, by omega, wants⟩
end AG
end T106_ag
section T107_ag
/-! gets: whole -/
section AG
variable {d dq n : Nat} {b F : Int} {Mx Mq Mx1 Mq1 Mx2 Mq2 M : mm_} {a a1 o o1 s z : Int} {K : Int → mm_ → Prop} {Kv G : mm_ → Prop} {Qt : qt_} {V : vv_} {r idx e : Int} {dec : Int → Option Int}
theorem AM_o [Inhabited gh_] {o2 : Int} (h : AM b F Mx Mq Mx1 Mq1 a a1 o1 s z) (h0 : 0 ≤ o2 ∧ o2 ≤ 12) : AM b F Mx Mq (up_ Mx1 1 6 o2) (up_ Mq1 6 15 o2) a a1 o2 s z := by
  obtain ⟨h1, h2, h3, h4, h5, h6, h7, h8, h9, h10, h11, h12, h13⟩ := h
  refine ⟨h1, h2, XC_tr h3 (XC_u1 (by decide)), QC_tr h4 (QC_u6 (by decide)), ER_o h5 h0, by rw [up_off (by decide)]; exact h6, fun i x y => by rw [up_ne (by decide), up_ne (by decide)]; exact h7 i x y, by rw [up_ne (by decide)]; exact h8, fun i x y => by rw [up_ne (by decide)]; exact h9 i x y, fun r i hr x y => ?_, fun i x y => by rw [up_ne (by decide)]; exact h11 i x y, by rw [up_off (by decide)]; exact h12, by rw [up_off (by decide)]; exact h13⟩
  rw [up_ne (fun e => absurd hr (by rw [e]; decide))]; exact h10 r i hr x y
/-- a bracket: X's opens and goes, Q's openSign -/
theorem y_118 [Inhabited gh_] (hE : ER b F Mx Mq a o) (hS : b = 1 → o ≠ 12) (hg : o < 12 → ER b F (up_ Mx 1 6 (o + 1)) (up_ Mq 6 15 (o + 1)) a (o + 1) → Kv (up_ Mx 1 6 (o + 1))) (hr : b = 0 → o = 12 → Qt 8 (flX_ Mx 2 a)) : Tr_ wd0 pg0 (d + 2) 118 [.inr (.inr 1)] Mx (rv_ Kv) Qt := by
  have e6 := hE.2.2.2.1
  have ho := hE.2.2.2.2.2.1
  have hb := hE.2.2.2.2.2.2.2.2.1
  refine x_118 (ER_iX hE) (by omega) (by omega) (fun h => ?_) (fun h => ?_)
  · rw [e6]; exact hg (by omega) (ER_o hE (by omega))
  · rw [hE.2.1]
    rcases hb with hb | hb
    · exact hr hb (by omega)
    · exact absurd (by omega) (hS hb)
theorem j_239t [Inhabited gh_] {x : Int} (hT : Tks Mx Mq) (hE : ER b F Mx Mq a o) (hx : 37 ≤ x ∧ x ≤ 93 ∨ 256 ≤ x ∧ x ≤ 261) (hk : Mx 70 a = skk_ x) (h12 : a < 1200) (ho : o < 12) (h : Kv (nx_ (up_ Mq 6 15 (o + 1)))) : Tr_ wd0 pg0 (d + 3) 239 [.inr (.inr 6), .inl x] Mq (rv_ Kv) Qt := by
  obtain ⟨e1, e2, e3, e4, e5, e6⟩ := ER_k hT hE
  have := (kq_s e1 hx).mpr hk
  have e15 := hE.2.2.2.2.1
  exact q_239g (ER_goq hE) e4 (e5 h12) this.1 this.2 (by have := hE.2.2.2.2.2.1; omega) (by omega) (by rw [e15]; exact h)
theorem j_239o [Inhabited gh_] {x : Int} (hT : Tks Mx Mq) (hE : ER b F Mx Mq a o) (hb : b = 0) (hx : 37 ≤ x ∧ x ≤ 93 ∨ 256 ≤ x ∧ x ≤ 261) (hk : Mx 70 a = skk_ x) (ho : o = 12) (h : Kv (bf_ (up_ Mq 6 15 13) 2 (Mx 71 a))) : Tr_ wd0 pg0 (d + 3) 239 [.inr (.inr 6), .inl x] Mq (rv_ Kv) Qt := by
  obtain ⟨e1, e2, e3, e4, e5, e6⟩ := ER_k hT hE
  have := (kq_s e1 hx).mpr hk
  have e15 := hE.2.2.2.2.1
  exact q_239o (ER_ok hE hb) e3 this.1 this.2 (by omega) (by rw [e2]; exact h)
theorem j_239r [Inhabited gh_] {x : Int} (hT : Tks Mx Mq) (hE : ER b F Mx Mq a o) (hb : b = 0) (hx : 37 ≤ x ∧ x ≤ 93 ∨ 256 ≤ x ∧ x ≤ 261) (hk : Mx 70 a = skk_ x) (h12 : a = 1200) (ho : o < 12) (h : Kv (bf_ (up_ Mq 6 15 (o + 1)) 2 (Mx 71 a))) : Tr_ wd0 pg0 (d + 3) 239 [.inr (.inr 6), .inl x] Mq (rv_ Kv) Qt := by
  obtain ⟨e1, e2, e3, e4, e5, e6⟩ := ER_k hT hE
  have := (kq_s e1 hx).mpr hk
  have e15 := hE.2.2.2.2.1
  exact q_239r (ER_ok hE hb) (e6 h12) this.1 this.2 (by have := hE.2.2.2.2.2.1; omega) (by omega) (by rw [e2, e15]; exact h)
theorem SQ_o [Inhabited gh_] (hE : ER b F Mx Mq a o) (hb : b = 0) (hq : QA M Mq) : SQ (flX_ Mx 2 a) M (bf_ (up_ Mq 6 15 13) 2 (Mx 71 a)) := by
  have h16 : Mq 6 16 = 0 := by rw [hE.2.2.2.2.2.2.2.1]; exact hb
  have := ER_a hE
  exact ⟨bf_sp (by rw [up_off (by decide)]; exact h16) (by decide), by unfold in9_; rw [bf_6 (by decide) (by decide), up_off (by decide), hE.2.2.1]; omega, by rw [bf_13, fl_4], ⟨by rw [bf_14, fl_5], fl_b7 hE⟩, QA_tr hq (QA_tr (QA_u6 (by decide)) (QF_QA bf_QF))⟩
theorem j_243t [Inhabited gh_] {x : Int} (hT : Tks Mx Mq) (hE : ER b F Mx Mq a o) (hx : 37 ≤ x ∧ x ≤ 93 ∨ 256 ≤ x ∧ x ≤ 261) (hk : Mx 70 a = skk_ x) (h12 : a < 1200) (ho : 0 < o) (h : Kv (up_ (nx_ Mq) 6 15 (o - 1))) : Tr_ wd0 pg0 (d + 4) 243 [.inr (.inr 6), .inl x] Mq (rv_ Kv) Qt := by
  obtain ⟨e1, e2, e3, e4, e5, e6⟩ := ER_k hT hE
  have := (kq_s e1 hx).mpr hk
  have e15 := hE.2.2.2.2.1
  exact q_243g (ER_goq hE) e4 (e5 h12) this.1 this.2 (by omega) (by have := hE.2.2.2.2.2.1; omega) (by rw [e15]; exact h)
theorem j_243r [Inhabited gh_] {x : Int} (hT : Tks Mx Mq) (hE : ER b F Mx Mq a o) (hb : b = 0) (hx : 37 ≤ x ∧ x ≤ 93 ∨ 256 ≤ x ∧ x ≤ 261) (hk : Mx 70 a = skk_ x) (h12 : a = 1200) (h : Kv (bf_ Mq 2 (Mx 71 a))) : Tr_ wd0 pg0 (d + 4) 243 [.inr (.inr 6), .inl x] Mq (rv_ Kv) Qt := by
  obtain ⟨e1, e2, e3, e4, e5, e6⟩ := ER_k hT hE
  have := (kq_s e1 hx).mpr hk
  exact q_243r (ER_ok hE hb) (e6 h12) this.1 this.2 (by rw [e2]; exact h)
theorem j_243w [Inhabited gh_] {x : Int} (hT : Tks Mx Mq) (hE : ER b F Mx Mq a o) (hb : b = 0) (hx : 37 ≤ x ∧ x ≤ 93 ∨ 256 ≤ x ∧ x ≤ 261) (hk : Mx 70 a ≠ skk_ x) (h : Kv (bf_ Mq 1 (Mx 71 a))) : Tr_ wd0 pg0 (d + 4) 243 [.inr (.inr 6), .inl x] Mq (rv_ Kv) Qt := by
  obtain ⟨e1, e2, e3, e4, e5, e6⟩ := ER_k hT hE
  exact q_243w (ER_ok hE hb) e3 (fun c => hk ((kq_s e1 hx).mp c)) (by rw [e2]; exact h)
/-- Q's assign, once stopped, from the index on -/
theorem q_302s1 [Inhabited gh_] {p v x2 : Int} (hV : Cl_ wd0 (Tr_ wd0 pg0 (d + 4)) V (rv_ fun M1 => rv_ Kv [] M1) Qt m_302) (hW : Wk_ V) {x4 x5 : Int} (hv : 0 ≤ v → v < 48) (hs : sp_ M) (h : Kv M) : Tr_ wd0 pg0 (d + 4) 244 [.inr (.inr 6), .inl 256] M (rv_ fun M5 => (if v < 0 then V 149 [rr 6, ii p, ii x2, ii v, ii x4, ii x5, ii 0, none, none] [] M5 else (0 ≤ v ∧ v < 48) ∧ V 149 [rr 6, ii p, ii x2, ii v, ii x4, ii x5, ii (M5 182 v), none, none] [] M5)) Qt := by
  refine q_244s hs ?_
  by_cases c : v < 0
  · rw [if_pos c]; exact q_302st hV hW hs h
  · rw [if_neg c]; exact ⟨⟨by omega, hv (by omega)⟩, q_302st hV hW hs h⟩
end AG
end T107_ag

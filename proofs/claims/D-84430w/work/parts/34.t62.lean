section T62_qe
/-! Q's e's: what waits, as lists -/
/-- signs that wait, the latest first -/
def stS (M : mm_) : List (Int × Int) → Prop
  | [] => True
  | x :: t => M 229 (t.length : Int) = x.1 ∧ M 230 (t.length : Int) = x.2 ∧ stS M t
/-- operands that wait: sort, place, whether bad -/
def stW (M : mm_) : List (Int × Int × Int) → Prop
  | [] => True
  | x :: t => M 231 (t.length : Int) = x.1 ∧ M 232 (t.length : Int) = x.2.1 ∧ M 233 (t.length : Int) = x.2.2 ∧ stW M t
/-- comparisons in the brackets that are open -/
def stC (M : mm_) : List Int → Prop
  | [] => True
  | x :: t => M 234 (t.length : Int) = x ∧ stC M t
/-- forms from a place on, the latest first -/
def stF (M : mm_) (f : Int) : List (Int × Int) → Prop
  | [] => True
  | x :: t => M 227 (f + t.length) = x.1 ∧ M 228 (f + t.length) = x.2 ∧ stF M f t
def QE (M : mm_) (sg : List (Int × Int)) (ws : List (Int × Int × Int)) (cm : List Int) (f : Int) (fm : List (Int × Int)) : Prop :=
  M 6 112 = sg.length ∧ stS M sg ∧ M 6 116 = ws.length ∧ stW M ws ∧ M 6 118 + 1 = cm.length ∧ stC M cm ∧ M 6 104 = f + fm.length ∧ stF M f fm
theorem stS_c {M M' : mm_} : ∀ (l : List (Int × Int)), (∀ i : Int, 0 ≤ i → i < l.length → M' 229 i = M 229 i ∧ M' 230 i = M 230 i) → stS M l → stS M' l
  | [], _, _ => trivial
  | x :: t, h, hs => by
    have h1 := h t.length (by omega) (by simp only [List.length_cons]; omega)
    exact ⟨h1.1.trans hs.1, h1.2.trans hs.2.1, stS_c t (fun i h0 hi => h i h0 (by simp only [List.length_cons]; (clear h hs h1 h0; lia))) hs.2.2⟩
theorem stW_c {M M' : mm_} : ∀ (l : List (Int × Int × Int)), (∀ i : Int, 0 ≤ i → i < l.length → M' 231 i = M 231 i ∧ M' 232 i = M 232 i ∧ M' 233 i = M 233 i) → stW M l → stW M' l
  | [], _, _ => trivial
  | x :: t, h, hs => by
    have h1 := h t.length (by omega) (by simp only [List.length_cons]; omega)
    exact ⟨h1.1.trans hs.1, h1.2.1.trans hs.2.1, h1.2.2.trans hs.2.2.1, stW_c t (fun i h0 hi => h i h0 (by simp only [List.length_cons]; (clear h hs h1 h0; omega))) hs.2.2.2⟩
theorem stC_c {M M' : mm_} : ∀ (l : List Int), (∀ i : Int, 0 ≤ i → i < l.length → M' 234 i = M 234 i) → stC M l → stC M' l
  | [], _, _ => trivial
  | x :: t, h, hs => by
    have h1 := h t.length (by omega) (by simp only [List.length_cons]; omega)
    exact ⟨h1.trans hs.1, stC_c t (fun i h0 hi => h i h0 (by simp only [List.length_cons]; omega)) hs.2⟩
theorem stF_c {M M' : mm_} {f : Int} : ∀ (l : List (Int × Int)), (∀ i : Int, f ≤ i → i < f + l.length → M' 227 i = M 227 i ∧ M' 228 i = M 228 i) → stF M f l → stF M' f l
  | [], _, _ => trivial
  | x :: t, h, hs => by
    have h1 := h (f + t.length) (by omega) (by simp only [List.length_cons]; omega)
    exact ⟨h1.1.trans hs.1, h1.2.trans hs.2.1, stF_c t (fun i h0 hi => h i h0 (by simp only [List.length_cons]; omega)) hs.2.2⟩
section QE
variable {d : Nat} {M : mm_} {sg : List (Int × Int)} {ws : List (Int × Int × Int)} {cm : List Int} {f : Int} {fm : List (Int × Int)} {K : Int → mm_ → Prop} {Kv : mm_ → Prop} {Qr : qr_} {Qt : qt_} {V : vv_}
/-- the scalars of Q that an e does not touch by its lists -/
def QF (M M' : mm_) : Prop := Fr_ [6, 227, 228, 229, 230, 231, 232, 233, 234] M M' ∧ ∀ i : Int, i ≠ 12 → i ≠ 13 → i ≠ 14 → i ≠ 15 → i ≠ 104 → i ≠ 112 → i ≠ 116 → i ≠ 118 → M' 6 i = M 6 i
theorem QF_rf : QF M M := ⟨Fr_rf, fun _ _ _ _ _ _ _ _ _ => rfl⟩
theorem QF_tr {M1 M2 : mm_} (h1 : QF M M1) (h2 : QF M1 M2) : QF M M2 := ⟨Fr_tr h1.1 h2.1, fun i a b c e g h j k => (h2.2 i a b c e g h j k).trans (h1.2 i a b c e g h j k)⟩
/-- the scalars that stay: at, fault, its place, open -/
def Sc (M M' : mm_) : Prop := M' 6 12 = M 6 12 ∧ M' 6 13 = M 6 13 ∧ M' 6 14 = M 6 14 ∧ M' 6 15 = M 6 15
/-- put: a form more -/
def pu_ (M : mm_) (x y : Int) : mm_ := up_ (up_ (up_ M 227 (M 6 104) x) 228 (M 6 104) y) 6 104 (M 6 104 + 1)
theorem q_277 {x y : Int} (h0 : 0 ≤ M 6 104) (h1 : M 6 104 < 3000) (h : Kv (pu_ M x y)) : Tr_ wd0 pg0 (d + 1) 277 [.inr (.inr 6), .inl x, .inl y] M (rv_ Kv) Qt := t_277 fun V hV hW => b_277_0 (Tr_mono _) hV hW x y M ⟨⟨h0, h1⟩, ⟨h0, h1⟩, rv_i (by rw [w32_id (by omega) (by omega)]; exact h)⟩
theorem pu_6 {x y i : Int} (h : i ≠ 104) : pu_ M x y 6 i = M 6 i := by unfold pu_; rw [up_off h, up_ne (by decide), up_ne (by decide)]
theorem pu_r {x y : Int} {r : Nat} (h : r ≠ 6) (h1 : r ≠ 227) (h2 : r ≠ 228) : pu_ M x y r = M r := by unfold pu_; rw [up_ne h, up_ne h2, up_ne h1]
theorem pu_QF {x y : Int} : QF M (pu_ M x y) := ⟨Fr_up (Fr_up (Fr_up Fr_rf (by decide)) (by decide)) (by decide), fun i _ _ _ _ h _ _ _ => pu_6 h⟩
theorem pu_QE {x y : Int} (h : QE M sg ws cm f fm) : QE (pu_ M x y) sg ws cm f ((x, y) :: fm) := by
  obtain ⟨h1, h2, h3, h4, h5, h6, h7, h8⟩ := h
  refine ⟨by rw [pu_6 (by decide)]; exact h1, stS_c _ (fun i _ _ => by rw [pu_r (by decide) (by decide) (by decide), pu_r (by decide) (by decide) (by decide)]; exact ⟨rfl, rfl⟩) h2, by rw [pu_6 (by decide)]; exact h3, stW_c _ (fun i _ _ => by rw [pu_r (by decide) (by decide) (by decide), pu_r (by decide) (by decide) (by decide), pu_r (by decide) (by decide) (by decide)]; exact ⟨rfl, rfl, rfl⟩) h4, by rw [pu_6 (by decide)]; exact h5, stC_c _ (fun i _ _ => by rw [pu_r (by decide) (by decide) (by decide)]) h6, ?_, ?_, ?_, ?_⟩
  · unfold pu_; rw [up_at, h7, List.length_cons]; (clear h1 h2 h3 h4 h5 h6 h7 h8; lia)
  · unfold pu_; rw [up_ne (by decide), up_ne (by decide), h7, up_at]
  · unfold pu_; rw [up_ne (by decide), h7, up_at]
  · refine stF_c _ (fun i hi hj => ?_) h8
    unfold pu_
    rw [up_ne (by decide), up_ne (by decide), up_off (by rw [h7]; omega), up_ne (by decide), up_off (by rw [h7]; omega), up_ne (by decide)]
    exact ⟨rfl, rfl⟩
/-- hold: a sign more -/
def ho_ (M : mm_) (x y : Int) : mm_ := up_ (up_ (up_ M 229 (M 6 112) x) 230 (M 6 112) y) 6 112 (M 6 112 + 1)
theorem q_273 {x y : Int} (h0 : 0 ≤ M 6 112) (h1 : M 6 112 < 1240) (h : Kv (ho_ M x y)) : Tr_ wd0 pg0 (d + 1) 273 [.inr (.inr 6), .inl x, .inl y] M (rv_ Kv) Qt := t_273 fun V hV hW => b_273_0 (Tr_mono _) hV hW x y M ⟨⟨h0, h1⟩, ⟨h0, h1⟩, rv_i (by rw [w32_id (by omega) (by omega)]; exact h)⟩
theorem ho_6 {x y i : Int} (h : i ≠ 112) : ho_ M x y 6 i = M 6 i := by unfold ho_; rw [up_off h, up_ne (by decide), up_ne (by decide)]
theorem ho_r {x y : Int} {r : Nat} (h : r ≠ 6) (h1 : r ≠ 229) (h2 : r ≠ 230) : ho_ M x y r = M r := by unfold ho_; rw [up_ne h, up_ne h2, up_ne h1]
theorem ho_QF {x y : Int} : QF M (ho_ M x y) := ⟨Fr_up (Fr_up (Fr_up Fr_rf (by decide)) (by decide)) (by decide), fun i _ _ _ _ _ h _ _ => ho_6 h⟩
theorem ho_QE {x y : Int} (h : QE M sg ws cm f fm) : QE (ho_ M x y) ((x, y) :: sg) ws cm f fm := by
  obtain ⟨h1, h2, h3, h4, h5, h6, h7, h8⟩ := h
  refine ⟨?_, ⟨?_, ?_, ?_⟩, by rw [ho_6 (by decide)]; exact h3, stW_c _ (fun i _ _ => by rw [ho_r (by decide) (by decide) (by decide), ho_r (by decide) (by decide) (by decide), ho_r (by decide) (by decide) (by decide)]; exact ⟨rfl, rfl, rfl⟩) h4, by rw [ho_6 (by decide)]; exact h5, stC_c _ (fun i _ _ => by rw [ho_r (by decide) (by decide) (by decide)]) h6, by rw [ho_6 (by decide)]; exact h7, stF_c _ (fun i _ _ => by rw [ho_r (by decide) (by decide) (by decide), ho_r (by decide) (by decide) (by decide)]; exact ⟨rfl, rfl⟩) h8⟩
  · unfold ho_; rw [up_at, h1, List.length_cons]; omega
  · unfold ho_; rw [up_ne (by decide), up_ne (by decide), h1, up_at]
  · unfold ho_; rw [up_ne (by decide), h1, up_at]
  · refine stS_c _ (fun i hi hj => ?_) h2
    unfold ho_
    rw [up_ne (by decide), up_ne (by decide), up_off (by rw [h1]; omega), up_ne (by decide), up_off (by rw [h1]; omega), up_ne (by decide)]
    exact ⟨rfl, rfl⟩
/-- a scalar of Q that no list needs -/
theorem QE_sc {i v : Int} (h : QE M sg ws cm f fm) (a : i ≠ 104) (b : i ≠ 112) (c : i ≠ 116) (e : i ≠ 118) : QE (up_ M 6 i v) sg ws cm f fm := by
  obtain ⟨h1, h2, h3, h4, h5, h6, h7, h8⟩ := h
  refine ⟨by rw [up_off (Ne.symm b)]; exact h1, stS_c _ (fun i _ _ => by rw [up_ne (by decide), up_ne (by decide)]; exact ⟨rfl, rfl⟩) h2, by rw [up_off (Ne.symm c)]; exact h3, stW_c _ (fun i _ _ => by rw [up_ne (by decide), up_ne (by decide), up_ne (by decide)]; exact ⟨rfl, rfl, rfl⟩) h4, by rw [up_off (Ne.symm e)]; exact h5, stC_c _ (fun i _ _ => by rw [up_ne (by decide)]) h6, by rw [up_off (Ne.symm a)]; exact h7, stF_c _ (fun i _ _ => by rw [up_ne (by decide), up_ne (by decide)]; exact ⟨rfl, rfl⟩) h8⟩
theorem bf_QE {k p : Int} (h : QE M sg ws cm f fm) : QE (bf_ M k p) sg ws cm f fm := QE_sc (QE_sc h (by decide) (by decide) (by decide) (by decide)) (by decide) (by decide) (by decide) (by decide)
theorem nx_QE (h : QE M sg ws cm f fm) : QE (nx_ M) sg ws cm f fm := QE_sc h (by decide) (by decide) (by decide) (by decide)
theorem nt_QE {k p : Int} (h : QE M sg ws cm f fm) : QE (nt_ M k p) sg ws cm f fm := by
  unfold nt_
  split
  · exact h
  · split
    · exact bf_QE h
    · exact h
/-- a sign less -/
theorem pS_QE {x : Int × Int} (h : QE M (x :: sg) ws cm f fm) : QE (up_ M 6 112 (M 6 112 - 1)) sg ws cm f fm := by
  obtain ⟨h1, h2, h3, h4, h5, h6, h7, h8⟩ := h
  refine ⟨by rw [up_at, h1, List.length_cons]; omega, stS_c _ (fun i _ _ => by rw [up_ne (by decide), up_ne (by decide)]; exact ⟨rfl, rfl⟩) h2.2.2, by rw [up_off (by decide)]; exact h3, stW_c _ (fun i _ _ => by rw [up_ne (by decide), up_ne (by decide), up_ne (by decide)]; exact ⟨rfl, rfl, rfl⟩) h4, by rw [up_off (by decide)]; exact h5, stC_c _ (fun i _ _ => by rw [up_ne (by decide)]) h6, by rw [up_off (by decide)]; exact h7, stF_c _ (fun i _ _ => by rw [up_ne (by decide), up_ne (by decide)]; exact ⟨rfl, rfl⟩) h8⟩
/-- an operand less -/
theorem pW_QE {x : Int × Int × Int} (h : QE M sg (x :: ws) cm f fm) : QE (up_ M 6 116 (M 6 116 - 1)) sg ws cm f fm := by
  obtain ⟨h1, h2, h3, h4, h5, h6, h7, h8⟩ := h
  refine ⟨by rw [up_off (by decide)]; exact h1, stS_c _ (fun i _ _ => by rw [up_ne (by decide), up_ne (by decide)]; exact ⟨rfl, rfl⟩) h2, by rw [up_at, h3, List.length_cons]; omega, stW_c _ (fun i _ _ => by rw [up_ne (by decide), up_ne (by decide), up_ne (by decide)]; exact ⟨rfl, rfl, rfl⟩) h4.2.2.2, by rw [up_off (by decide)]; exact h5, stC_c _ (fun i _ _ => by rw [up_ne (by decide)]) h6, by rw [up_off (by decide)]; exact h7, stF_c _ (fun i _ _ => by rw [up_ne (by decide), up_ne (by decide)]; exact ⟨rfl, rfl⟩) h8⟩
/-- an operand's parts change -/
def w3_ (M : mm_) (i s p b : Int) : mm_ := up_ (up_ (up_ M 231 i s) 232 i p) 233 i b
theorem w3_QE {x : Int × Int × Int} {s p b i : Int} (h : QE M sg (x :: ws) cm f fm) (hi : i = ws.length) : QE (w3_ M i s p b) sg ((s, p, b) :: ws) cm f fm := by
  subst hi
  obtain ⟨h1, h2, h3, h4, h5, h6, h7, h8⟩ := h
  have e : ∀ r : Nat, r ≠ 231 → r ≠ 232 → r ≠ 233 → w3_ M ws.length s p b r = M r := fun r a b c => by unfold w3_; rw [up_ne c, up_ne b, up_ne a]
  refine ⟨by rw [e 6 (by decide) (by decide) (by decide)]; exact h1, stS_c _ (fun i _ _ => by rw [e 229 (by decide) (by decide) (by decide), e 230 (by decide) (by decide) (by decide)]; exact ⟨rfl, rfl⟩) h2, by rw [e 6 (by decide) (by decide) (by decide)]; exact h3, ⟨?_, ?_, ?_, ?_⟩, by rw [e 6 (by decide) (by decide) (by decide)]; exact h5, stC_c _ (fun i _ _ => by rw [e 234 (by decide) (by decide) (by decide)]) h6, by rw [e 6 (by decide) (by decide) (by decide)]; exact h7, stF_c _ (fun i _ _ => by rw [e 227 (by decide) (by decide) (by decide), e 228 (by decide) (by decide) (by decide)]; exact ⟨rfl, rfl⟩) h8⟩
  · unfold w3_; rw [up_ne (by decide), up_ne (by decide), up_at]
  · unfold w3_; rw [up_ne (by decide), up_at]
  · unfold w3_; rw [up_at]
  · refine stW_c _ (fun i hi hj => ?_) h4.2.2.2
    unfold w3_
    rw [up_ne (by decide), up_ne (by decide), up_off (by omega), up_ne (by decide), up_off (by omega), up_ne (by decide), up_off (by omega), up_ne (by decide), up_ne (by decide)]
    exact ⟨rfl, rfl, rfl⟩
/-- an operand more -/
def ad_ (M : mm_) (s p b : Int) : mm_ := up_ (w3_ M (M 6 116) s p b) 6 116 (M 6 116 + 1)
theorem ad_QE {s p b : Int} (h : QE M sg ws cm f fm) : QE (ad_ M s p b) sg ((s, p, b) :: ws) cm f fm := by
  obtain ⟨h1, h2, h3, h4, h5, h6, h7, h8⟩ := h
  have e : ∀ r : Nat, r ≠ 6 → r ≠ 231 → r ≠ 232 → r ≠ 233 → ad_ M s p b r = M r := fun r a b c g => by unfold ad_ w3_; rw [up_ne a, up_ne g, up_ne c, up_ne b]
  have e6 : ∀ i : Int, i ≠ 116 → ad_ M s p b 6 i = M 6 i := fun i a => by unfold ad_ w3_; rw [up_off a, up_ne (by decide), up_ne (by decide), up_ne (by decide)]
  refine ⟨by rw [e6 _ (by decide)]; exact h1, stS_c _ (fun i _ _ => by rw [e 229 (by decide) (by decide) (by decide) (by decide), e 230 (by decide) (by decide) (by decide) (by decide)]; exact ⟨rfl, rfl⟩) h2, ?_, ⟨?_, ?_, ?_, ?_⟩, by rw [e6 _ (by decide)]; exact h5, stC_c _ (fun i _ _ => by rw [e 234 (by decide) (by decide) (by decide) (by decide)]) h6, by rw [e6 _ (by decide)]; exact h7, stF_c _ (fun i _ _ => by rw [e 227 (by decide) (by decide) (by decide) (by decide), e 228 (by decide) (by decide) (by decide) (by decide)]; exact ⟨rfl, rfl⟩) h8⟩
  · unfold ad_; rw [up_at, h3, List.length_cons]; omega
  · unfold ad_ w3_; rw [up_ne (by decide), up_ne (by decide), up_ne (by decide), h3, up_at]
  · unfold ad_ w3_; rw [up_ne (by decide), up_ne (by decide), h3, up_at]
  · unfold ad_ w3_; rw [up_ne (by decide), h3, up_at]
  · refine stW_c _ (fun i hi hj => ?_) h4
    unfold ad_ w3_
    rw [up_ne (by decide), up_ne (by decide), up_ne (by decide), up_off (by rw [h3]; omega), up_ne (by decide), up_ne (by decide), up_off (by rw [h3]; omega), up_ne (by decide), up_ne (by decide), up_off (by rw [h3]; omega), up_ne (by decide), up_ne (by decide)]
    exact ⟨rfl, rfl, rfl⟩
/-- the comparison of the bracket at hand changes -/
theorem cC_QE {x v : Int} {i : Int} (h : QE M sg ws (x :: cm) f fm) (hi : i = cm.length) : QE (up_ M 234 i v) sg ws (v :: cm) f fm := by
  subst hi
  obtain ⟨h1, h2, h3, h4, h5, h6, h7, h8⟩ := h
  refine ⟨by rw [up_ne (by decide)]; exact h1, stS_c _ (fun i _ _ => by rw [up_ne (by decide), up_ne (by decide)]; exact ⟨rfl, rfl⟩) h2, by rw [up_ne (by decide)]; exact h3, stW_c _ (fun i _ _ => by rw [up_ne (by decide), up_ne (by decide), up_ne (by decide)]; exact ⟨rfl, rfl, rfl⟩) h4, by rw [up_ne (by decide)]; exact h5, ⟨by rw [up_at], stC_c _ (fun i hi hj => by rw [up_off (by (clear h1 h2 h3 h4 h5 h6 h7 h8 hi; omega))]) h6.2⟩, by rw [up_ne (by decide)]; exact h7, stF_c _ (fun i _ _ => by rw [up_ne (by decide), up_ne (by decide)]; exact ⟨rfl, rfl⟩) h8⟩
/-- a bracket more -/
def br_ (M : mm_) : mm_ := up_ (up_ M 6 118 (M 6 118 + 1)) 234 (M 6 118 + 1) 0
theorem br_QE (h : QE M sg ws cm f fm) : QE (br_ M) sg ws (0 :: cm) f fm := by
  obtain ⟨h1, h2, h3, h4, h5, h6, h7, h8⟩ := h
  have e : ∀ r : Nat, r ≠ 6 → r ≠ 234 → br_ M r = M r := fun r a b => by unfold br_; rw [up_ne b, up_ne a]
  have e6 : ∀ i : Int, i ≠ 118 → br_ M 6 i = M 6 i := fun i a => by unfold br_; rw [up_ne (by decide), up_off a]
  refine ⟨by rw [e6 _ (by decide)]; exact h1, stS_c _ (fun i _ _ => by rw [e 229 (by decide) (by decide), e 230 (by decide) (by decide)]; exact ⟨rfl, rfl⟩) h2, by rw [e6 _ (by decide)]; exact h3, stW_c _ (fun i _ _ => by rw [e 231 (by decide) (by decide), e 232 (by decide) (by decide), e 233 (by decide) (by decide)]; exact ⟨rfl, rfl, rfl⟩) h4, ?_, ⟨?_, ?_⟩, by rw [e6 _ (by decide)]; exact h7, stF_c _ (fun i _ _ => by rw [e 227 (by decide) (by decide), e 228 (by decide) (by decide)]; exact ⟨rfl, rfl⟩) h8⟩
  · unfold br_; rw [up_ne (by decide), up_at, List.length_cons]; omega
  · unfold br_; rw [h5, up_at]
  · refine stC_c _ (fun i hi hj => ?_) h6
    unfold br_; rw [up_off (by omega), up_ne (by decide)]
theorem pC_QE {x : Int} (h : QE M sg ws (x :: cm) f fm) : QE (up_ M 6 118 (M 6 118 - 1)) sg ws cm f fm := by
  obtain ⟨h1, h2, h3, h4, h5, h6, h7, h8⟩ := h
  refine ⟨by rw [up_off (by decide)]; exact h1, stS_c _ (fun i _ _ => by rw [up_ne (by decide), up_ne (by decide)]; exact ⟨rfl, rfl⟩) h2, by rw [up_off (by decide)]; exact h3, stW_c _ (fun i _ _ => by rw [up_ne (by decide), up_ne (by decide), up_ne (by decide)]; exact ⟨rfl, rfl, rfl⟩) h4, ?_, stC_c _ (fun i _ _ => by rw [up_ne (by decide)]) h6.2, by rw [up_off (by decide)]; exact h7, stF_c _ (fun i _ _ => by rw [up_ne (by decide), up_ne (by decide)]; exact ⟨rfl, rfl⟩) h8⟩
  rw [up_at]; simp only [List.length_cons] at h5; omega
end QE
end T62_qe
section T63_qe
/-! Q's e's: one step of reducing, of prefixes; signs that bind two -/
/-- a fault and its place, with a note more -/
def np_ (j : Int) (q : Int × Int) (k p : Int) : Int × Int := if j = 0 then q else if q.1 = 0 ∨ p < q.2 ∨ p = q.2 ∧ k < q.1 then (k, p) else q
def fqq_ (M : mm_) : Int × Int := (M 6 13, M 6 14)
theorem nt_fq {M : mm_} {k p : Int} : fqq_ (nt_ M k p) = np_ (M 6 16) (fqq_ M) k p := by
  unfold nt_ np_ fqq_
  by_cases h1 : M 6 16 = 0
  · rw [if_pos h1, if_pos h1]
  · rw [if_neg h1, if_neg h1]
    by_cases h2 : M 6 13 = 0 ∨ p < M 6 14 ∨ p = M 6 14 ∧ k < M 6 13
    · rw [if_pos h2, if_pos h2, bf_13, bf_14]
    · rw [if_neg h2, if_neg h2]
theorem nt_6 {M : mm_} {k p i : Int} (h1 : i ≠ 13) (h2 : i ≠ 14) : nt_ M k p 6 i = M 6 i := by
  unfold nt_
  split
  · rfl
  · split
    · exact bf_6 h1 h2
    · rfl
theorem nt_r {M : mm_} {k p : Int} {r : Nat} (h : r ≠ 6) : nt_ M k p r = M r := by
  unfold nt_
  split
  · rfl
  · split
    · exact bf_ne h
    · rfl
theorem nt_QF {M : mm_} {k p : Int} : QF M (nt_ M k p) := ⟨fun r h => nt_r fun e => h (by rw [e]; decide), fun i _ h1 h2 _ _ _ _ _ => nt_6 h1 h2⟩
/-- what asking an operand for a sort notes, and whether it is wrong -/
def ab_ (x : Int × Int × Int) (w : Int) : Int := if x.2.2 = 0 ∧ x.1 ≠ w then 1 else 0
def aM_ (M : mm_) (x : Int × Int × Int) (w : Int) : mm_ := if x.2.2 = 0 ∧ x.1 ≠ w then nt_ M 5 x.2.1 else M
def aq_ (j : Int) (q : Int × Int) (x : Int × Int × Int) (w : Int) : Int × Int := if x.2.2 = 0 ∧ x.1 ≠ w then np_ j q 5 x.2.1 else q
theorem aM_fq {M : mm_} {x : Int × Int × Int} {w : Int} : fqq_ (aM_ M x w) = aq_ (M 6 16) (fqq_ M) x w := by
  unfold aM_ aq_; split
  · exact nt_fq
  · rfl
theorem aM_6 {M : mm_} {x : Int × Int × Int} {w i : Int} (h1 : i ≠ 13) (h2 : i ≠ 14) : aM_ M x w 6 i = M 6 i := by
  unfold aM_; split
  · exact nt_6 h1 h2
  · rfl
theorem aM_r {M : mm_} {x : Int × Int × Int} {w : Int} {r : Nat} (h : r ≠ 6) : aM_ M x w r = M r := by
  unfold aM_; split
  · exact nt_r h
  · rfl
theorem aM_QF {M : mm_} {x : Int × Int × Int} {w : Int} : QF M (aM_ M x w) := by
  unfold aM_; split
  · exact nt_QF
  · exact QF_rf
theorem aM_QE {M : mm_} {x : Int × Int × Int} {w : Int} {sg : List (Int × Int)} {ws : List (Int × Int × Int)} {cm : List Int} {f : Int} {fm : List (Int × Int)} (h : QE M sg ws cm f fm) : QE (aM_ M x w) sg ws cm f fm := by
  unfold aM_; split
  · exact nt_QE h
  · exact h
/-- reducing: the sort that a sign wants, its notes, whether the two are wrong -/
def rw_ (s : Int) : Int := if s = 31 ∨ s = 32 then 2 else 1
def rq_ (j : Int) (q : Int × Int) (s : Int) (x y : Int × Int × Int) : Int × Int := if s = 25 ∨ s = 26 then (if x.2.2 = 0 ∧ y.2.2 = 0 ∧ x.1 ≠ y.1 then np_ j q 5 y.2.1 else q) else aq_ j (aq_ j q x (rw_ s)) y (rw_ s)
def rb_ (s : Int) (x y : Int × Int × Int) : Int := if s = 25 ∨ s = 26 then (if x.2.2 = 0 ∧ y.2.2 = 0 ∧ x.1 = y.1 then 0 else 1) else (if x.2.2 = 0 ∧ y.2.2 = 0 ∧ x.1 = rw_ s ∧ y.1 = rw_ s then 0 else 1)
def lo9_ (s : Int) : Int := if s = 32 then 1 else if s = 31 then 2 else if 25 ≤ s then 3 else if 22 ≤ s then 5 else if 20 ≤ s then 4 else 0
section QE
variable {d : Nat} {M : mm_} {sg : List (Int × Int)} {ws : List (Int × Int × Int)} {cm : List Int} {f : Int} {fm : List (Int × Int)} {K : Int → mm_ → Prop} {Kv : mm_ → Prop} {Qr : qr_} {Qt : qt_} {V : vv_}
theorem q_280 {i w : Int} {x : Int × Int × Int} (h0 : 0 ≤ i) (h1 : i < 1202) (e1 : M 231 i = x.1) (e2 : M 232 i = x.2.1) (e3 : M 233 i = x.2.2) (h : K (ab_ x w) (aM_ M x w)) : Tr_ wd0 pg0 (d + 2) 280 [.inr (.inr 6), .inl i, .inl w] M (ri_ K) Qt := t_280 fun V hV hW => b_280_0 (Tr_mono _) hV hW i w M (by
  refine ⟨⟨h0, h1⟩, fun _ => ?_⟩
  rw [e1, e2, e3]
  unfold ab_ aM_ at h
  by_cases a1 : x.2.2 = 0
  · rw [if_pos a1]
    by_cases a2 : x.1 = w
    · rw [if_neg (fun h9 => h9.2 a2), if_neg (fun h9 => h9.2 a2)] at h
      rw [if_pos a2, if_pos rfl]
      exact ⟨⟨h0, h1⟩, .inl rfl, ri_i h⟩
    · rw [if_pos ⟨a1, a2⟩, if_pos ⟨a1, a2⟩] at h
      rw [if_neg a2, if_neg (by decide)]
      exact ⟨⟨h0, h1⟩, ⟨h0, h1⟩, q_236 ⟨.inr rfl, ri_i h⟩⟩
  · rw [if_neg (fun h9 => a1 h9.1), if_neg (fun h9 => a1 h9.1)] at h
    rw [if_neg a1, if_pos rfl]
    exact ⟨.inl rfl, ri_i h⟩)
theorem q_287 {s : Int} (h : K (lo9_ s) M) : Tr_ wd0 pg0 (d + 1) 287 [.inl s] M (ri_ K) Qt := t_287 fun V hV hW => b_287_0 (Tr_mono _) hV hW s M (by
  unfold lo9_ at h
  by_cases a1 : s = 32
  · rw [if_pos a1] at h ⊢; exact ri_i h
  · rw [if_neg a1] at h ⊢
    by_cases a2 : s = 31
    · rw [if_pos a2] at h ⊢; exact ri_i h
    · rw [if_neg a2] at h ⊢
      by_cases a3 : s < 25
      · rw [if_neg (by omega)] at h; rw [if_pos a3]
        by_cases a4 : s < 22
        · rw [if_neg (by omega)] at h; rw [if_pos a4]
          by_cases a5 : s < 20
          · rw [if_neg (by omega)] at h; rw [if_pos a5]; exact ri_i h
          · rw [if_pos (by (clear h hV hW a1 a2 a3; omega))] at h; rw [if_neg a5]; exact ri_i h
        · rw [if_pos (by omega)] at h; rw [if_neg a4]; exact ri_i h
      · rw [if_pos (by omega)] at h; rw [if_neg a3]; exact ri_i h)
/-- what a step of reducing leaves -/
def Rd (M M' : mm_) (s : Int) (x y : Int × Int × Int) : Prop := QF M M' ∧ M' 6 12 = M 6 12 ∧ M' 6 15 = M 6 15 ∧ fqq_ M' = rq_ (M 6 16) (fqq_ M) s x y
theorem l_286_218 (hV : Cl_ wd0 (Tr_ wd0 pg0 (d + 2)) V Qr Qt m_286) (hW : Wk_ V) {a1 a2 s : Int} {x y : Int × Int × Int} {b : Int} (hE : QE M sg (y :: x :: ws) cm f fm) (hl : (ws.length : Int) + 1 < 1202) (hb : b = 0 ∨ b = 1)
    (h : ∀ M', QF M M' → M' 6 12 = M 6 12 → M' 6 15 = M 6 15 → fqq_ M' = fqq_ M → QE M' sg ((if s < 25 then 1 else 2, x.2.1, b) :: ws) cm f fm → V 11 [rr 6, ii a1, ii a2, none, none, none, none, none, none, none] [] M') :
    V 218 [rr 6, ii a1, ii a2, ii s, ii ((ws.length : Int) + 1), ii (ws.length : Int), ii b, none, none, none] [] M := by
  have e116 : M 6 116 = (ws.length : Int) + 2 := by rw [hE.2.2.1]; simp only [List.length_cons]; omega
  have key : ∀ t : Int, QE (up_ (up_ (up_ M 6 116 (w32 (M 6 116 - 1))) 231 (ws.length : Int) t) 233 (ws.length : Int) b) sg ((t, x.2.1, b) :: ws) cm f fm := by
    intro t
    have h1 := pW_QE hE
    have h2 := w3_QE (s := t) (p := x.2.1) (b := b) h1 rfl
    have e3 : (up_ M 6 116 (M 6 116 - 1)) 232 (ws.length : Int) = x.2.1 := by rw [up_ne (by decide)]; exact hE.2.2.2.1.2.2.2.2.1
    have e4 : w3_ (up_ M 6 116 (M 6 116 - 1)) (ws.length : Int) t x.2.1 b = up_ (up_ (up_ M 6 116 (w32 (M 6 116 - 1))) 231 (ws.length : Int) t) 233 (ws.length : Int) b := by
      unfold w3_
      rw [w32_id (by omega) (by (clear hV hW hE hb h h1 h2 e3; omega))]
      congr 1
      refine up_id' ?_
      rw [up_ne (by decide)]; exact e3
    rw [← e4]; exact h2
  have kf : ∀ t : Int, QF M (up_ (up_ (up_ M 6 116 (w32 (M 6 116 - 1))) 231 (ws.length : Int) t) 233 (ws.length : Int) b) := by
    intro t
    refine ⟨Fr_up (Fr_up (Fr_up Fr_rf (by decide)) (by decide)) (by decide), fun i _ _ _ _ _ _ h _ => ?_⟩
    rw [up_ne (by decide), up_ne (by decide), up_off h]
  have k6 : ∀ (t i : Int), i ≠ 116 → (up_ (up_ (up_ M 6 116 (w32 (M 6 116 - 1))) 231 (ws.length : Int) t) 233 (ws.length : Int) b) 6 i = M 6 i := by
    intro t i h
    rw [up_ne (by decide), up_ne (by decide), up_off h]
  refine b_286_218 (Tr_mono _) hV hW a1 a2 s _ _ b M ?_
  split
  · rename_i h1
    refine ⟨by (clear hV hW hE hb h key kf k6 h1; omega), ⟨by omega, hb⟩, ?_⟩
    refine h _ (kf 1) (k6 1 _ (by decide)) (k6 1 _ (by decide)) ?_ ?_
    · unfold fqq_; rw [k6 1 _ (by decide), k6 1 _ (by decide)]
    · rw [if_pos h1]; exact key 1
  · rename_i h1
    refine ⟨by omega, ⟨by omega, hb⟩, ?_⟩
    refine h _ (kf 2) (k6 2 _ (by decide)) (k6 2 _ (by decide)) ?_ ?_
    · unfold fqq_; rw [k6 2 _ (by decide), k6 2 _ (by decide)]
    · rw [if_neg h1]; exact key 2
theorem l_286_11 (hV : Cl_ wd0 (Tr_ wd0 pg0 (d + 2)) V Qr Qt m_286) (hW : Wk_ V) {a1 a2 s tk : Int} {x y : Int × Int × Int} (hE : QE M ((s, tk) :: sg) (y :: x :: ws) cm f fm) (hl : (ws.length : Int) + 1 < 1202) (hs : (sg.length : Int) < 1240) (hf0 : 0 ≤ f) (hf : f + fm.length < 3000)
    (bx : x.2.2 = 0 ∨ x.2.2 = 1) (bY : y.2.2 = 0 ∨ y.2.2 = 1) (hlev : a2 ≤ lo9_ s)
    (h : ∀ M', Rd M M' s x y → QE M' sg ((if s < 25 then 1 else 2, x.2.1, rb_ s x y) :: ws) cm f ((s, 0) :: fm) → V 11 [rr 6, ii a1, ii a2, none, none, none, none, none, none, none] [] M') :
    V 11 [rr 6, ii a1, ii a2, none, none, none, none, none, none, none] [] M := by
  have e112 : M 6 112 = (sg.length : Int) + 1 := by rw [hE.1]; simp only [List.length_cons]; (clear hV hW hE hl hs hf0 hf bx bY hlev h; lia)
  have e229 : M 229 (sg.length : Int) = s := hE.2.1.1
  refine b_286_11 (Tr_mono _) hV hW a1 a2 M ?_
  rw [if_neg (by omega), w32_id (by (clear hV hW hE hl hf0 hf bx bY hlev h e229; omega)) (by omega)]
  have em : M 6 112 - 1 = (sg.length : Int) := by omega
  rw [em, e229]
  refine ⟨by (clear hV hW hE hl hf0 hf bx bY hlev h e229 em; lia), q_287 ?_⟩
  rw [if_neg (by (clear hV hW hE hl hs hf0 hf bx bY h e112 e229 em; omega)), w32_id (by omega) (by omega), em, e229]
  refine ⟨by omega, ?_⟩
  have hE1 : QE (up_ M 6 112 (sg.length : Int)) sg (y :: x :: ws) cm f fm := by rw [← em]; exact pS_QE hE
  have e104 : (up_ M 6 112 (sg.length : Int)) 6 104 = f + fm.length := hE1.2.2.2.2.2.2.1
  refine q_277 (by (clear hV hW hE hl hs hf bx bY hlev h e112 e229 em hE1; lia)) (by omega) ?_
  have hE2 := pu_QE (x := s) (y := 0) hE1
  generalize hM2 : pu_ (up_ M 6 112 (sg.length : Int)) s 0 = M2 at hE2
  have q2 : QF M M2 := by
    rw [← hM2]
    exact QF_tr ⟨Fr_up Fr_rf (by decide), fun i _ _ _ _ _ h _ _ => by rw [up_off h]⟩ pu_QF
  have s2 : ∀ i : Int, i ≠ 104 → i ≠ 112 → M2 6 i = M 6 i := fun i a b => by rw [← hM2, pu_6 a, up_off b]
  have e116 : M2 6 116 = (ws.length : Int) + 2 := by rw [hE2.2.2.1]; simp only [List.length_cons]; (clear hV hW hE hl hs hf0 hf bx bY hlev h e112 e229 em hE1 e104 hM2 hE2 q2 s2; omega)
  have w1 : w32 (M2 6 116 - 1) = (ws.length : Int) + 1 := by rw [w32_id (by (clear hV hW hE hs hf0 hf bx bY hlev h e112 e229 em hE1 e104 hM2 hE2 q2 s2; omega)) (by omega)]; (clear hV hW hE hl hs hf0 hf bx bY hlev h e112 e229 em hE1 e104 hM2 hE2 q2 s2; omega)
  have w2 : w32 (M2 6 116 - 2) = (ws.length : Int) := by rw [w32_id (by (clear hV hW hE hs hf0 hf bx bY hlev h e112 e229 em hE1 e104 hM2 hE2 q2 s2; omega)) (by omega)]; omega
  rw [w1, w2]
  have ex3 : M2 233 (ws.length : Int) = x.2.2 := hE2.2.2.2.1.2.2.2.2.2.1
  have ey3 : M2 233 ((ws.length : Int) + 1) = y.2.2 := by have := hE2.2.2.2.1.2.2.1; simp only [List.length_cons] at this; exact_mod_cast this
  have ex1 : M2 231 (ws.length : Int) = x.1 := hE2.2.2.2.1.2.2.2.1
  have ey1 : M2 231 ((ws.length : Int) + 1) = y.1 := by have := hE2.2.2.2.1.1; simp only [List.length_cons] at this; exact_mod_cast this
  have ex2 : M2 232 (ws.length : Int) = x.2.1 := hE2.2.2.2.1.2.2.2.2.1
  have ey2 : M2 232 ((ws.length : Int) + 1) = y.2.1 := by have := hE2.2.2.2.1.2.1; simp only [List.length_cons] at this; exact_mod_cast this
  rw [ex3, ey3]
  refine ⟨by (clear hV hW hE hs hf0 hf bx bY hlev h e112 e229 em hE1 e104 hM2 hE2 q2 s2 ex3 ey3 ex1 ey1 ex2 ey2; lia), fun _ => ?_⟩
  have main : ∀ b0 : Int, (b0 = 0 ∨ b0 = 1) → (b0 = 0 ↔ x.2.2 = 0 ∧ y.2.2 = 0) → V 105 [rr 6, ii a1, ii a2, ii s, ii ((ws.length : Int) + 1), ii (ws.length : Int), ii b0, none, none, none] [] M2 := by
    intro b0 hb0 hbe
    refine b_286_105 (Tr_mono _) hV hW a1 a2 s _ _ b0 M2 ?_
    have same : s = 25 ∨ s = 26 → V 117 [rr 6, ii a1, ii a2, ii s, ii ((ws.length : Int) + 1), ii (ws.length : Int), ii b0, none, none, none] [] M2 := by
      intro hs2
      refine b_286_117 (Tr_mono _) hV hW a1 a2 s _ _ b0 M2 ?_
      rw [ex1, ey1, ey2]
      have fin : ∀ (b : Int) (M3 : mm_), (b = 0 ∨ b = 1) → QE M3 sg (y :: x :: ws) cm f ((s, 0) :: fm) → QF M M3 → M3 6 12 = M 6 12 → M3 6 15 = M 6 15 → fqq_ M3 = rq_ (M 6 16) (fqq_ M) s x y → b = rb_ s x y → V 218 [rr 6, ii a1, ii a2, ii s, ii ((ws.length : Int) + 1), ii (ws.length : Int), ii b, none, none, none] [] M3 := by
        intro b M3 hb h3 h4 h5 h6 h7 h8
        refine l_286_218 hV hW h3 hl hb (fun M' c1 c2 c3 c4 c5 => ?_)
        rw [h8] at c5
        exact h M' ⟨QF_tr h4 c1, c2.trans h5, c3.trans h6, c4.trans h7⟩ c5
      have f2 : fqq_ M2 = fqq_ M := by unfold fqq_; rw [s2 13 (by decide) (by decide), s2 14 (by decide) (by decide)]
      by_cases c1 : b0 = 0
      · rw [if_pos c1]
        have c2 := hbe.mp c1
        by_cases c3 : x.1 = y.1
        · rw [if_pos c3]
          refine ⟨by (clear hV hW hE hs hf0 hf bx bY hlev h e112 e229 em hE1 e104 hM2 hE2 q2 s2 ex3 ey3 ex1 ey1 ex2 ey2 hb0 hbe hs2 fin f2 c1 c2 c3; lia), by (clear hV hW hE hs hf0 hf bx bY hlev h e112 e229 em hE1 e104 hM2 hE2 q2 s2 ex3 ey3 ex1 ey1 ex2 ey2 hb0 hbe hs2 fin f2 c1 c2 c3; lia), fin b0 M2 hb0 hE2 q2 (s2 _ (by decide) (by decide)) (s2 _ (by decide) (by decide)) ?_ ?_⟩
          · unfold rq_; rw [if_pos hs2, if_neg (fun h9 => h9.2.2 c3), f2]
          · unfold rb_; rw [if_pos hs2, if_pos ⟨c2.1, c2.2, c3⟩, c1]
        · rw [if_neg c3]
          refine ⟨by omega, by omega, by omega, q_236 ?_⟩
          refine fin 1 _ (.inr rfl) (nt_QE hE2) (QF_tr q2 nt_QF) (by rw [nt_6 (by decide) (by decide)]; exact s2 _ (by decide) (by decide)) (by rw [nt_6 (by decide) (by decide)]; exact s2 _ (by decide) (by decide)) ?_ ?_
          · unfold rq_; rw [if_pos hs2, if_pos ⟨c2.1, c2.2, c3⟩, nt_fq, f2, s2 16 (by decide) (by decide)]
          · unfold rb_; rw [if_pos hs2, if_neg (fun h9 => c3 h9.2.2)]
      · rw [if_neg c1]
        have c2 : ¬ (x.2.2 = 0 ∧ y.2.2 = 0) := fun h9 => c1 (hbe.mpr h9)
        refine fin b0 M2 hb0 hE2 q2 (s2 _ (by decide) (by decide)) (s2 _ (by decide) (by decide)) ?_ ?_
        · unfold rq_; rw [if_pos hs2, if_neg (fun h9 => c2 ⟨h9.1, h9.2.1⟩), f2]
        · unfold rb_; rw [if_pos hs2, if_neg (fun h9 => c2 ⟨h9.1, h9.2.1⟩)]; (clear hV hW hE hl hs hf0 hf bx bY hlev h e112 e229 em hE1 e104 hM2 hE2 q2 s2 e116 w1 w2 ex3 ey3 ex1 ey1 ex2 ey2 fin f2; lia)
    have other : ¬ (s = 25 ∨ s = 26) → V 176 [rr 6, ii a1, ii a2, ii s, ii ((ws.length : Int) + 1), ii (ws.length : Int), ii b0, ii (rw_ s), none, none] [] M2 := by
      intro hs2
      refine b_286_176 (Tr_mono _) hV hW a1 a2 s _ _ b0 _ M2 ?_
      refine q_280 (x := x) (by (clear hV hW hE hs hf0 hf bx bY hlev h e112 e229 em hE1 e104 hM2 hE2 q2 s2 ex3 ey3 ex1 ey1 ex2 ey2 hb0 hbe same hs2; lia)) (by (clear hV hW hE hs hf0 hf bx bY hlev h e112 e229 em hE1 e104 hM2 hE2 q2 s2 ex3 ey3 ex1 ey1 ex2 ey2 hb0 hbe same hs2; lia)) ex1 ex2 ex3 ?_
      refine q_280 (x := y) (by (clear hV hW hE hs hf0 hf bx bY hlev h e112 e229 em hE1 e104 hM2 hE2 q2 s2 ex3 ey3 ex1 ey1 ex2 ey2 hb0 hbe same hs2; lia)) (by omega) (by rw [aM_r (by decide)]; exact ey1) (by rw [aM_r (by decide)]; exact ey2) (by rw [aM_r (by decide)]; exact ey3) ?_
      have fin : ∀ (b : Int), (b = 0 ∨ b = 1) → b = rb_ s x y → V 218 [rr 6, ii a1, ii a2, ii s, ii ((ws.length : Int) + 1), ii (ws.length : Int), ii b, none, none, none] [] (aM_ (aM_ M2 x (rw_ s)) y (rw_ s)) := by
        intro b hb h8
        refine l_286_218 hV hW (aM_QE (aM_QE hE2)) hl hb (fun M' c1 c2 c3 c4 c5 => ?_)
        rw [h8] at c5
        rw [aM_6 (by decide) (by decide), aM_6 (by decide) (by decide), s2 _ (by decide) (by decide)] at c2 c3
        refine h M' ⟨QF_tr q2 (QF_tr (QF_tr aM_QF aM_QF) c1), c2, c3, ?_⟩ c5
        rw [c4, aM_fq, aM_fq, aM_6 (by decide) (by decide), s2 16 (by decide) (by decide)]
        unfold rq_
        rw [if_neg hs2]
        have : fqq_ M2 = fqq_ M := by unfold fqq_; rw [s2 13 (by decide) (by decide), s2 14 (by decide) (by decide)]
        rw [this]
      have eb : ∀ z : Int × Int × Int, ab_ z (rw_ s) = 0 ∨ ab_ z (rw_ s) = 1 := fun z => by unfold ab_; split <;> omega
      by_cases c1 : b0 = 0
      · rw [if_pos c1]
        have c2 := hbe.mp c1
        by_cases c3 : ab_ x (rw_ s) = 0
        · rw [if_pos c3]
          have c3' : x.1 = rw_ s := by unfold ab_ at c3; split at c3; omega; rename_i h9; exact Classical.byContradiction fun h8 => h9 ⟨c2.1, h8⟩
          by_cases c4 : ab_ y (rw_ s) = 0
          · rw [if_pos c4]
            have c4' : y.1 = rw_ s := by unfold ab_ at c4; split at c4; (clear hV hW hE hl hs hf0 hf bx bY hlev h e112 e229 em hE1 e104 hM2 hE2 q2 s2 e116 w1 w2 ex3 ey3 ex1 ey1 ex2 ey2 hb0 hbe same hs2 fin eb c1 c2 c3 c3'; lia); rename_i h9; exact Classical.byContradiction fun h8 => h9 ⟨c2.2, h8⟩
            refine fin 0 (.inl rfl) ?_
            unfold rb_; rw [if_neg hs2, if_pos ⟨c2.1, c2.2, c3', c4'⟩]
          · rw [if_neg c4]
            refine fin 1 (.inr rfl) ?_
            unfold rb_; rw [if_neg hs2, if_neg]
            intro h9; apply c4; unfold ab_; rw [if_neg]; intro h8; exact h8.2 h9.2.2.2
        · rw [if_neg c3]
          refine fin 1 (.inr rfl) ?_
          unfold rb_; rw [if_neg hs2, if_neg]
          intro h9; apply c3; unfold ab_; rw [if_neg]; intro h8; exact h8.2 h9.2.2.1
      · rw [if_neg c1]
        refine fin 1 (.inr rfl) ?_
        unfold rb_; rw [if_neg hs2, if_neg]
        intro h9; exact c1 (hbe.mpr ⟨h9.1, h9.2.1⟩)
    by_cases g1 : s = 25
    · rw [if_pos g1]; exact same (.inl g1)
    · rw [if_neg g1]
      by_cases g2 : s = 26
      · rw [if_pos g2]; exact same (.inr g2)
      · rw [if_neg g2]
        have o := other (by (clear hV hW hE hl hs hf0 hf bx bY hlev h e112 e229 em hE1 e104 hM2 hE2 q2 s2 e116 w1 w2 ex3 ey3 ex1 ey1 ex2 ey2 hb0 hbe same other; lia))
        by_cases g3 : s = 31
        · rw [if_pos g3]
          have : rw_ s = 2 := by unfold rw_; rw [if_pos (.inl g3)]
          rw [this] at o; exact o
        · rw [if_neg g3]
          by_cases g4 : s = 32
          · rw [if_pos g4]
            have : rw_ s = 2 := by unfold rw_; rw [if_pos (.inr g4)]
            rw [this] at o; exact o
          · rw [if_neg g4]
            have : rw_ s = 1 := by unfold rw_; rw [if_neg (by (clear hV hW hE hl hs hf0 hf bx bY hlev h e112 e229 em hE1 e104 hM2 hE2 q2 s2 e116 w1 w2 ex3 ey3 ex1 ey1 ex2 ey2 hb0 hbe same other g1 g2 o; lia))]
            rw [this] at o; exact o
  by_cases c1 : x.2.2 = 0
  · rw [if_pos c1]
    refine ⟨by (clear hV hW hE hs hf0 hf bx bY hlev h e112 e229 em hE1 e104 hM2 hE2 q2 s2 ex3 ey3 ex1 ey1 ex2 ey2 main c1; lia), fun _ => ?_⟩
    by_cases c2 : y.2.2 = 0
    · rw [if_pos c2]; exact main 0 (.inl rfl) ⟨fun _ => ⟨c1, c2⟩, fun _ => rfl⟩
    · rw [if_neg c2]; exact main 1 (.inr rfl) ⟨fun h9 => absurd h9 (by decide), fun h9 => absurd h9.2 c2⟩
  · rw [if_neg c1]; exact main 1 (.inr rfl) ⟨fun h9 => absurd h9 (by decide), fun h9 => absurd h9.1 c1⟩
end QE
end T63_qe
section T64_qe
/-! Q's e's: prefixes, the latest bracket, how strongly a sign binds -/
def pw_ (s : Int) : Int := if s = 13 then 1 else 2
def pb_ (x : Int × Int × Int) (w : Int) : Int := if x.2.2 = 0 ∧ x.1 = w then 0 else 1
def lv_ (k : Int) : Int := if k = 43 then 1 else if k = 42 then 2 else if k = 261 ∨ k = 111 ∨ k = 260 ∨ k = 112 ∨ k = 262 ∨ k = 113 then 3 else if k = 243 ∨ k = 245 then 4 else if k = 242 ∨ k = 247 ∨ k = 237 then 5 else 0
def sh_ (k : Int) : Int := if k = 43 then 32 else if k = 42 then 31 else if k = 261 then 25 else if k = 111 then 26 else if k = 260 then 27 else if k = 112 then 28 else if k = 262 then 29 else if k = 113 then 30 else if k = 243 then 20 else if k = 245 then 21 else if k = 242 then 22 else if k = 247 then 23 else 24
section QE
variable {d : Nat} {M : mm_} {sg : List (Int × Int)} {ws : List (Int × Int × Int)} {cm : List Int} {f : Int} {fm : List (Int × Int)} {K : Int → mm_ → Prop} {Kv : mm_ → Prop} {Qr : qr_} {Qt : qt_} {V : vv_}
theorem l_279_147 (hV : Cl_ wd0 (Tr_ wd0 pg0 d) V Qr Qt m_279) (hW : Wk_ V) {a1 b tk w : Int} {x : Int × Int × Int} {M0 : mm_} (hE : QE M0 sg (x :: ws) cm f fm) (hM : M = up_ M0 231 (ws.length : Int) w) (hl : (ws.length : Int) < 1202) (hb : b = 0 ∨ b = 1) (hs : (sg.length : Int) < 1240) (htk : M0 230 (sg.length : Int) = tk) (ht0 : 0 ≤ tk) (ht1 : tk < 1202)
    (h : ∀ M', QF M0 M' → M' 6 12 = M0 6 12 → M' 6 15 = M0 6 15 → fqq_ M' = fqq_ M0 → QE M' sg ((w, M0 150 tk, b) :: ws) cm f fm → V 0 [rr 6, none, none, none] [] M') :
    V 147 [rr 6, ii a1, ii (ws.length : Int), ii b] [] M := by
  have e112 : M 6 112 = (sg.length : Int) := by rw [hM, up_ne (by decide)]; exact hE.1
  have e230 : M 230 (sg.length : Int) = tk := by rw [hM, up_ne (by decide)]; exact htk
  refine b_279_147 (Tr_mono _) hV hW a1 _ b M ?_
  rw [e112, e230]
  refine ⟨by omega, by omega, by (clear hV hW hE hM hb hs htk ht0 ht1 h e112 e230; omega), ⟨by omega, hb⟩, ?_⟩
  have e150 : M 150 tk = M0 150 tk := by rw [hM, up_ne (by decide)]
  rw [e150, hM]
  refine h _ ⟨Fr_up (Fr_up (Fr_up Fr_rf (by decide)) (by decide)) (by decide), fun i _ _ _ _ _ _ _ _ => by rw [up_ne (by decide), up_ne (by decide), up_ne (by decide)]⟩ (by rw [up_ne (by decide), up_ne (by decide), up_ne (by decide)]) (by rw [up_ne (by decide), up_ne (by decide), up_ne (by decide)]) ?_ (w3_QE hE rfl)
  unfold fqq_
  rw [up_ne (by decide), up_ne (by decide), up_ne (by decide)]
theorem l_279_0 (hV : Cl_ wd0 (Tr_ wd0 pg0 (d + 2)) V Qr Qt m_279) (hW : Wk_ V) {s tk : Int} {x : Int × Int × Int} (hE : QE M ((s, tk) :: sg) (x :: ws) cm f fm) (hs13 : s = 13 ∨ s = 14) (hl : (ws.length : Int) < 1202) (hs : (sg.length : Int) < 1240) (hf0 : 0 ≤ f) (hf : f + fm.length < 3000) (bx : x.2.2 = 0 ∨ x.2.2 = 1) (ht0 : 0 ≤ tk) (ht1 : tk < 1202) (ho : 0 < M 6 15) (ho2 : M 6 15 ≤ 13)
    (h : ∀ M', QF M M' → M' 6 12 = M 6 12 → M' 6 15 = M 6 15 - 1 → fqq_ M' = aq_ (M 6 16) (fqq_ M) x (pw_ s) → QE M' sg ((pw_ s, M 150 tk, pb_ x (pw_ s)) :: ws) cm f ((s, 0) :: fm) → V 0 [rr 6, none, none, none] [] M') :
    V 0 [rr 6, none, none, none] [] M := by
  have e112 : M 6 112 = (sg.length : Int) + 1 := by rw [hE.1]; simp only [List.length_cons]; (clear hV hW hE hs13 hl hs hf0 hf bx ht0 ht1 ho ho2 h; lia)
  have e229 : M 229 (sg.length : Int) = s := hE.2.1.1
  have e230 : M 230 (sg.length : Int) = tk := hE.2.1.2.1
  have em : M 6 112 - 1 = (sg.length : Int) := by (clear hV hW hE hs13 hl hs hf0 hf bx ht0 ht1 ho ho2 h e229 e230; lia)
  have w1 : w32 (M 6 112 - 1) = (sg.length : Int) := by rw [w32_id (by (clear hV hW hE hs13 hl hf0 hf bx ht0 ht1 ho ho2 h e229 e230 em; omega)) (by (clear hV hW hE hs13 hl hf0 hf bx ht0 ht1 ho ho2 h e229 e230 em; omega))]; omega
  have w2 : w32 (M 6 15 - 1) = M 6 15 - 1 := w32_id (by (clear hV hW hE hs13 hl hs hf0 hf bx ht0 ht1 h e112 e229 e230 em w1; lia)) (by omega)
  -- behind the sign
  generalize hM1 : up_ (up_ M 6 112 (sg.length : Int)) 6 15 (M 6 15 - 1) = M1
  have hE1 : QE M1 sg (x :: ws) cm f fm := by
    rw [← hM1, ← em]
    exact QE_sc (pS_QE hE) (by decide) (by decide) (by decide) (by decide)
  have s1 : ∀ i : Int, i ≠ 15 → i ≠ 112 → M1 6 i = M 6 i := fun i a b => by rw [← hM1, up_off a, up_off b]
  have r1 : ∀ r : Nat, r ≠ 6 → M1 r = M r := fun r a => by rw [← hM1, up_ne a, up_ne a]
  have q1 : QF M M1 := by rw [← hM1]; exact ⟨Fr_up (Fr_up Fr_rf (by decide)) (by decide), fun i _ _ _ a _ b _ _ => by rw [up_off a, up_off b]⟩
  have o1 : M1 6 15 = M 6 15 - 1 := by rw [← hM1, up_at]
  have i1 : M1 6 112 = (sg.length : Int) := hE1.1
  have go : ∀ a1 : Int, (a1 = 1 ↔ s = 13) → (a1 = 0 ∨ a1 = 1) → V 79 [rr 6, ii a1, none, none] [] M1 := by
    intro a1 ha hab
    refine b_279_79 (Tr_mono _) hV hW a1 M1 ?_
    rw [i1, r1 229 (by decide), e229]
    refine ⟨by (clear hV hW hE hs13 hl hf0 hf bx ht0 ht1 ho ho2 h e229 e230 em w2 hM1 hE1 s1 r1 q1 o1 ha hab; lia), q_277 (by rw [hE1.2.2.2.2.2.2.1]; (clear hV hW hE hs13 hl hs hf bx ht0 ht1 ho ho2 h e112 e229 e230 em w1 w2 hM1 hE1 s1 r1 q1 o1 i1 ha hab; lia)) (by rw [hE1.2.2.2.2.2.2.1]; omega) ?_⟩
    have hE2 := pu_QE (x := s) (y := 0) hE1
    generalize hM2 : pu_ M1 s 0 = M2 at hE2
    have s2 : ∀ i : Int, i ≠ 104 → M2 6 i = M1 6 i := fun i a => by rw [← hM2, pu_6 a]
    have r2 : ∀ r : Nat, r ≠ 6 → r ≠ 227 → r ≠ 228 → M2 r = M1 r := fun r a b c => by rw [← hM2, pu_r a b c]
    have q2 : QF M M2 := by rw [← hM2]; exact QF_tr q1 pu_QF
    have e116 : M2 6 116 = (ws.length : Int) + 1 := by rw [hE2.2.2.1]; simp only [List.length_cons]; (clear hV hW hE hs13 hl hs hf0 hf bx ht0 ht1 ho ho2 h e112 e229 e230 em w1 w2 hM1 hE1 s1 r1 q1 o1 i1 ha hab hM2 hE2 s2 r2 q2; lia)
    have w3 : w32 (M2 6 116 - 1) = (ws.length : Int) := by rw [w32_id (by (clear hV hW hE hs13 hs hf0 hf bx ht0 ht1 ho ho2 h e112 e229 e230 em w1 w2 hM1 hE1 s1 r1 q1 o1 i1 ha hab hM2 hE2 s2 r2 q2; lia)) (by (clear hV hW hE hs13 hs hf0 hf bx ht0 ht1 ho ho2 h e112 e229 e230 em w1 w2 hM1 hE1 s1 r1 q1 o1 i1 ha hab hM2 hE2 s2 r2 q2; omega))]; (clear hV hW hE hs13 hl hs hf0 hf bx ht0 ht1 ho ho2 h e112 e229 e230 em w1 w2 hM1 hE1 s1 r1 q1 o1 i1 ha hab hM2 hE2 s2 r2 q2; lia)
    rw [w3]
    have ex1 : M2 231 (ws.length : Int) = x.1 := hE2.2.2.2.1.1
    have ex2 : M2 232 (ws.length : Int) = x.2.1 := hE2.2.2.2.1.2.1
    have ex3 : M2 233 (ws.length : Int) = x.2.2 := hE2.2.2.2.1.2.2.1
    rw [ex3]
    refine ⟨by (clear hV hW hE hs13 hs hf0 hf bx ht0 ht1 ho ho2 h e112 e229 e230 em w1 w2 hM1 hE1 s1 r1 q1 o1 i1 ha hab hM2 hE2 s2 r2 q2 ex1 ex2 ex3; lia), fun _ => ?_⟩
    have e230' : M2 230 (sg.length : Int) = tk := by rw [r2 230 (by decide) (by decide) (by decide), r1 230 (by decide)]; exact e230
    have f2 : fqq_ M2 = fqq_ M := by unfold fqq_; rw [s2 13 (by decide), s2 14 (by decide), s1 13 (by decide) (by decide), s1 14 (by decide) (by decide)]
    -- the last part
    have fin : ∀ (b w : Int) (M3 : mm_), (b = 0 ∨ b = 1) → w = pw_ s → b = pb_ x (pw_ s) → QE M3 sg (x :: ws) cm f ((s, 0) :: fm) → QF M2 M3 → M3 6 12 = M2 6 12 → M3 6 15 = M2 6 15 → fqq_ M3 = aq_ (M 6 16) (fqq_ M) x (pw_ s) → (∀ r : Nat, r ≠ 6 → M3 r = M2 r) → V 147 [rr 6, ii a1, ii (ws.length : Int), ii b] [] (up_ M3 231 (ws.length : Int) w) := by
      intro b w M3 hb hw hb2 h3 h4 h5 h6 h7 h8
      refine l_279_147 hV hW h3 rfl hl hb hs (by rw [h8 230 (by decide)]; exact e230') ht0 ht1 (fun M' c1 c2 c3 c4 c5 => ?_)
      rw [h8 150 (by decide), r2 150 (by decide) (by decide) (by decide), r1 150 (by decide), hb2, hw] at c5
      refine h M' (QF_tr q2 (QF_tr h4 c1)) ?_ ?_ (c4.trans h7) c5
      · rw [c2, h5, s2 12 (by decide), s1 12 (by decide) (by decide)]
      · rw [c3, h6, s2 15 (by decide), o1]
    have hw9 : ∀ a : Int, a1 = a → (a = 0 → pw_ s = 2) ∧ (a = 1 → pw_ s = 1) := by
      intro a e; subst e
      unfold pw_
      refine ⟨fun h9 => ?_, fun h9 => ?_⟩
      · rw [if_neg (fun h8 => by have := ha.mpr h8; (clear hV hW hE hs13 hl hs hf0 hf bx ht0 ht1 ho ho2 h e112 e229 e230 em w1 w2 hM1 hE1 s1 r1 q1 o1 i1 ha hab hM2 hE2 s2 r2 q2 e116 w3 ex1 ex2 ex3 e230' f2 fin h8; lia))]
      · rw [if_pos (ha.mp h9)]
    have hab2 : ∀ w : Int, ab_ x w = 0 ∨ ab_ x w = 1 := fun w => by unfold ab_; split <;> (clear hV hW hE hs13 hl hs hf0 hf bx ht0 ht1 ho ho2 h e112 e229 e230 em w1 w2 hM1 hE1 s1 r1 q1 o1 i1 ha hab hM2 hE2 s2 r2 q2 e116 w3 ex1 ex2 ex3 e230' f2 fin hw9; lia)
    by_cases c1 : x.2.2 = 0
    · rw [if_pos c1]
      have ask : ∀ w : Int, w = pw_ s → ∀ v : Int, v = ab_ x w → (v = 0 → pb_ x (pw_ s) = 0) ∧ (v ≠ 0 → pb_ x (pw_ s) = 1) := by
        intro w hw v hv
        subst hw; subst hv
        unfold ab_ pb_
        by_cases h9 : x.1 = pw_ s
        · rw [if_neg (fun h8 => h8.2 h9), if_pos ⟨c1, h9⟩]; exact ⟨fun _ => rfl, fun h8 => absurd rfl h8⟩
        · rw [if_pos ⟨c1, h9⟩, if_neg (fun h8 => h9 h8.2)]; exact ⟨fun h8 => absurd h8 (by decide), fun _ => rfl⟩
      by_cases c2 : a1 = 0
      · rw [if_pos c2]
        have hw := (hw9 a1 rfl).1 c2
        refine q_280 (x := x) (by (clear hV hW hE hs13 hs hf0 hf bx ht0 ht1 ho ho2 h e112 e229 e230 em w1 w2 hM1 hE1 s1 r1 q1 o1 i1 ha hab hM2 hE2 s2 r2 q2 ex1 ex2 ex3 e230' f2 fin hw9 hab2 c1 ask c2 hw; lia)) (by omega) ex1 ex2 ex3 ?_
        have hk := ask 2 hw.symm _ rfl
        have hfq : fqq_ (aM_ M2 x 2) = aq_ (M 6 16) (fqq_ M) x (pw_ s) := by rw [aM_fq, f2, hw, s2 16 (by decide), s1 16 (by decide) (by decide)]
        by_cases c3 : ab_ x 2 = 0
        · rw [if_pos c3, if_pos c2]
          exact ⟨by omega, fin 0 2 _ (.inl rfl) hw.symm (hk.1 c3).symm (aM_QE hE2) aM_QF (aM_6 (by decide) (by decide)) (aM_6 (by decide) (by decide)) hfq (fun r h9 => aM_r h9)⟩
        · rw [if_neg c3, if_pos c2]
          exact ⟨by omega, fin 1 2 _ (.inr rfl) hw.symm (hk.2 c3).symm (aM_QE hE2) aM_QF (aM_6 (by decide) (by decide)) (aM_6 (by decide) (by decide)) hfq (fun r h9 => aM_r h9)⟩
      · rw [if_neg c2]
        have hw := (hw9 a1 rfl).2 (by (clear hV hW hE hs13 hl hs hf0 hf bx ht0 ht1 ho ho2 h e112 e229 e230 em w1 w2 hM1 hE1 s1 r1 q1 o1 i1 ha hM2 hE2 s2 r2 q2 e116 w3 ex1 ex2 ex3 e230' f2 fin hw9 hab2 c1 ask; lia))
        refine q_280 (x := x) (by (clear hV hW hE hs13 hs hf0 hf bx ht0 ht1 ho ho2 h e112 e229 e230 em w1 w2 hM1 hE1 s1 r1 q1 o1 i1 ha hab hM2 hE2 s2 r2 q2 ex1 ex2 ex3 e230' f2 fin hw9 hab2 c1 ask c2 hw; lia)) (by omega) ex1 ex2 ex3 ?_
        have hk := ask 1 hw.symm _ rfl
        have hfq : fqq_ (aM_ M2 x 1) = aq_ (M 6 16) (fqq_ M) x (pw_ s) := by rw [aM_fq, f2, hw, s2 16 (by decide), s1 16 (by decide) (by decide)]
        by_cases c3 : ab_ x 1 = 0
        · rw [if_pos c3, if_neg c2]
          exact ⟨by omega, fin 0 1 _ (.inl rfl) hw.symm (hk.1 c3).symm (aM_QE hE2) aM_QF (aM_6 (by decide) (by decide)) (aM_6 (by decide) (by decide)) hfq (fun r h9 => aM_r h9)⟩
        · rw [if_neg c3, if_neg c2]
          exact ⟨by omega, fin 1 1 _ (.inr rfl) hw.symm (hk.2 c3).symm (aM_QE hE2) aM_QF (aM_6 (by decide) (by decide)) (aM_6 (by decide) (by decide)) hfq (fun r h9 => aM_r h9)⟩
    · rw [if_neg c1]
      have hfq : fqq_ M2 = aq_ (M 6 16) (fqq_ M) x (pw_ s) := by unfold aq_; rw [if_neg (fun h9 => c1 h9.1)]; exact f2
      have hpb : 1 = pb_ x (pw_ s) := by unfold pb_; rw [if_neg (fun h9 => c1 h9.1)]
      by_cases c2 : a1 = 0
      · rw [if_pos c2]
        exact ⟨by omega, fin 1 2 _ (.inr rfl) ((hw9 a1 rfl).1 c2).symm hpb hE2 QF_rf rfl rfl hfq (fun _ _ => rfl)⟩
      · rw [if_neg c2]
        exact ⟨by omega, fin 1 1 _ (.inr rfl) ((hw9 a1 rfl).2 (by (clear hV hW hE hs13 hl hs hf0 hf bx ht0 ht1 ho ho2 h e112 e229 e230 em w1 w2 hM1 hE1 s1 r1 q1 o1 i1 ha hM2 hE2 s2 r2 q2 e116 w3 ex1 ex2 ex3 e230' f2 fin hw9 hab2 hfq hpb; lia))).symm hpb hE2 QF_rf rfl rfl hfq (fun _ _ => rfl)⟩
  have at39 : V 39 [rr 6, none, none, none] [] M := by
    refine b_279_39 (Tr_mono _) hV hW M ?_
    rw [w1, w2, e229, hM1]
    refine ⟨by omega, ?_⟩
    by_cases h13 : s = 13
    · rw [if_pos h13]; exact go 1 ⟨fun _ => h13, fun _ => rfl⟩ (.inr rfl)
    · rw [if_neg h13]; exact go 0 ⟨fun h9 => absurd h9 (by decide), fun h9 => absurd h9 h13⟩ (.inl rfl)
  refine b_279_0 (Tr_mono _) hV hW M ?_
  rw [if_neg (by (clear hV hW hE hs13 hl hf0 hf bx ht0 ht1 ho ho2 h e229 e230 em w2 hM1 hE1 s1 r1 q1 o1 go at39; lia)), w1, e229]
  refine ⟨by omega, ?_⟩
  by_cases h13 : s = 13
  · rw [if_pos h13]; exact at39
  · rw [if_neg h13, if_pos (by (clear hV hW hE hl hs hf0 hf ht0 ht1 ho ho2 h e112 e229 e230 em w1 w2 hM1 hE1 s1 r1 q1 o1 i1 go at39; lia))]
    exact ⟨by omega, at39⟩
/-- no prefix on top -/
def nP_ : List (Int × Int) → Prop
  | [] => True
  | x :: _ => x.1 ≠ 13 ∧ x.1 ≠ 14
theorem q_279n (hE : QE M sg ws cm f fm) (hs : (sg.length : Int) ≤ 1240) (hn : nP_ sg) (h : Kv M) : Tr_ wd0 pg0 (d + 1) 279 [.inr (.inr 6)] M (rv_ Kv) Qt := t_279 fun V hV hW => b_279_0 (Tr_mono _) hV hW M (by
  cases sg with
  | nil =>
    rw [if_pos (by rw [hE.1]; simp)]
    exact rv_i h
  | cons x t =>
    have e112 : M 6 112 = (t.length : Int) + 1 := by rw [hE.1]; simp only [List.length_cons]; (clear h hV hW hE hs hn; lia)
    have w1 : w32 (M 6 112 - 1) = (t.length : Int) := by rw [w32_id (by (clear h hV hW hE hs hn; lia)) (by simp only [List.length_cons] at hs; omega)]; (clear h hV hW hE hs hn; lia)
    have e229 : M 229 (t.length : Int) = x.1 := hE.2.1.1
    simp only [List.length_cons] at hs
    rw [if_neg (by (clear h hV hW hE hn e229; omega)), w1, e229, if_neg hn.1, if_neg hn.2]
    exact ⟨by (clear h hV hW hE hn e229; lia), by omega, rv_i h⟩)
/-- the latest bracket -/
theorem l_284_7 (hV : Cl_ wd0 (Tr_ wd0 pg0 d) V Qr Qt m_284) (hW : Wk_ V) {z : Int × Int} {rest : List (Int × Int)} (hz : z.1 = 1 ∨ z.1 = 2) (h : Qr [.inl (rest.length : Int)] M) (pend : List (Int × Int)) (hp : ∀ x, x ∈ pend → x.1 ≠ 1 ∧ x.1 ≠ 2) (hs : stS M (pend ++ z :: rest)) (hl : ((pend ++ z :: rest).length : Int) ≤ 1240) : V 7 [rr 6, ii ((pend ++ z :: rest).length - 1 : Int)] [] M := by
  induction pend with
  | nil =>
    have e : ((([] : List (Int × Int)) ++ z :: rest).length - 1 : Int) = (rest.length : Int) := by simp only [List.nil_append, List.length_cons]; omega
    rw [e]
    simp only [List.nil_append, List.length_cons] at hl
    refine b_284_7 (Tr_mono _) hV hW _ M ?_
    have e1 : M 229 (rest.length : Int) = z.1 := hs.1
    rw [e1]
    refine ⟨by omega, ?_⟩
    by_cases h1 : z.1 = 1
    · rw [if_pos h1]; exact h
    · rw [if_neg h1, if_pos (by (clear hV hW h hp hs hl e e1; lia))]; exact ⟨by omega, h⟩
  | cons x t ih =>
    have e : (((x :: t) ++ z :: rest).length - 1 : Int) = ((t ++ z :: rest).length : Int) := by simp only [List.cons_append, List.length_cons]; omega
    rw [e]
    simp only [List.cons_append, List.length_cons] at hl
    refine b_284_7 (Tr_mono _) hV hW _ M ?_
    have e1 : M 229 ((t ++ z :: rest).length : Int) = x.1 := hs.1
    have hx := hp x (List.mem_cons_self)
    rw [e1, if_neg hx.1, if_neg hx.2]
    refine ⟨by (clear hV hW hz h ih hp hs e1 hx; omega), by omega, ?_⟩
    rw [w32_id (by (clear hV hW hz h ih hp hs e1 hx; omega)) (by omega)]
    exact ih (fun y hy => hp y (List.mem_cons_of_mem _ hy)) hs.2.2 (by omega)
theorem q_284 {z : Int × Int} {rest pend : List (Int × Int)} (hE : QE M (pend ++ z :: rest) ws cm f fm) (hz : z.1 = 1 ∨ z.1 = 2) (hp : ∀ x, x ∈ pend → x.1 ≠ 1 ∧ x.1 ≠ 2) (hl : ((pend ++ z :: rest).length : Int) ≤ 1240) (h : K (rest.length : Int) M) : Tr_ wd0 pg0 (d + 1) 284 [.inr (.inr 6)] M (ri_ K) Qt := t_284 fun V hV hW => b_284_0 (Tr_mono _) hV hW M (by
  have := l_284_7 (M := M) hV hW hz (ri_i h) pend hp hE.2.1 hl
  rw [hE.1, w32_id (by (clear hE hz hp h hV hW this; omega)) (by omega)]
  exact this)
theorem q_288 {k : Int} (hi : in9_ M) (hk : KQ k (M 149 (M 6 12)) (M 151 (M 6 12))) (h : K (lv_ k) M) : Tr_ wd0 pg0 (d + 2) 288 [.inr (.inr 6)] M (ri_ K) Qt := t_288 fun V hV hW => b_288_0 (Tr_mono _) hV hW M (by
  unfold lv_ at h
  unfold KQ at hk
  by_cases c1 : k = 43
  · rw [if_pos c1] at h
    refine q_229t hi (by omega) (by omega) ?_
    rw [if_neg (by decide)]; exact ri_i h
  rw [if_neg c1] at h
  refine q_229f hi (by omega) ?_
  rw [if_pos rfl]
  by_cases c2 : k = 42
  · rw [if_pos c2] at h
    refine q_229t hi (by (clear hi h hV hW; omega)) (by omega) ?_
    rw [if_neg (by decide)]; exact ri_i h
  rw [if_neg c2] at h
  refine q_229f hi (by omega) ?_
  rw [if_pos rfl]
  by_cases c3 : k = 261
  · rw [if_pos (by (clear hi hk h hV hW c1 c2; lia))] at h
    refine q_237t hi (by omega) (by omega) ?_
    rw [if_neg (by decide)]; exact ri_i h
  refine q_237f hi (by (clear hi h hV hW; lia)) ?_
  rw [if_pos rfl]
  by_cases c4 : k = 111
  · rw [if_pos (by (clear hi hk h hV hW c1 c2 c3; lia))] at h
    refine q_237t hi (by omega) (by omega) ?_
    rw [if_neg (by decide)]; exact ri_i h
  refine q_237f hi (by (clear hi h hV hW; lia)) ?_
  rw [if_pos rfl]
  by_cases c5 : k = 260
  · rw [if_pos (by (clear hi hk h hV hW c1 c2 c3 c4; lia))] at h
    refine q_237t hi (by omega) (by omega) ?_
    rw [if_neg (by decide)]; exact ri_i h
  refine q_237f hi (by (clear hi h hV hW; lia)) ?_
  rw [if_pos rfl]
  by_cases c6 : k = 112
  · rw [if_pos (by (clear hi hk h hV hW c1 c2 c3 c4 c5; lia))] at h
    refine q_237t hi (by omega) (by omega) ?_
    rw [if_neg (by decide)]; exact ri_i h
  refine q_237f hi (by (clear hi h hV hW; lia)) ?_
  rw [if_pos rfl]
  by_cases c7 : k = 262
  · rw [if_pos (by (clear hi hk h hV hW c1 c2 c3 c4 c5 c6; lia))] at h
    refine q_237t hi (by omega) (by omega) ?_
    rw [if_neg (by decide)]; exact ri_i h
  refine q_237f hi (by (clear hi h hV hW; lia)) ?_
  rw [if_pos rfl]
  by_cases c8 : k = 113
  · rw [if_pos (by (clear hi hk h hV hW c1 c2 c3 c4 c5 c6 c7; lia))] at h
    refine q_237t hi (by lia) (by omega) ?_
    rw [if_neg (by decide)]; exact ri_i h
  refine q_237f hi (by (clear hi h hV hW; lia)) ?_
  rw [if_pos rfl]
  rw [if_neg (by (clear hi hk h hV hW c1 c2; lia))] at h
  by_cases c9 : k = 243
  · rw [if_pos (by (clear hi hk h hV hW c1 c2 c3 c4 c5 c6 c7 c8; lia))] at h
    refine q_237t hi (by lia) (by omega) ?_
    rw [if_neg (by decide)]; exact ri_i h
  refine q_237f hi (by (clear hi h hV hW; lia)) ?_
  rw [if_pos rfl]
  by_cases c10 : k = 245
  · rw [if_pos (by (clear hi hk h hV hW c1 c2 c3 c4 c5 c6 c7 c8 c9; lia))] at h
    refine q_237t hi (by (clear hi h hV hW; lia)) (by omega) ?_
    rw [if_neg (by decide)]; exact ri_i h
  refine q_237f hi (by (clear hi h hV hW; lia)) ?_
  rw [if_pos rfl]
  rw [if_neg (by (clear hi hk h hV hW c1 c2 c3 c4 c5 c6 c7 c8; lia))] at h
  by_cases c11 : k = 242
  · rw [if_pos (by (clear hi hk h hV hW c1 c2 c3 c4 c5 c6 c7 c8 c9 c10; lia))] at h
    refine q_237t hi (by lia) (by omega) ?_
    rw [if_neg (by decide)]; exact ri_i h
  refine q_237f hi (by (clear hi h hV hW; lia)) ?_
  rw [if_pos rfl]
  by_cases c12 : k = 247
  · rw [if_pos (by (clear hi hk h hV hW c1 c2 c3 c4 c5 c6 c7 c8 c9 c10 c11; lia))] at h
    refine q_237t hi (by (clear hi h hV hW; lia)) (by omega) ?_
    rw [if_neg (by decide)]; exact ri_i h
  refine q_237f hi (by lia) ?_
  rw [if_pos rfl]
  by_cases c13 : k = 237
  · rw [if_pos (by (clear hi hk h hV hW c1 c2 c3 c4 c5 c6 c7 c8 c9 c10 c11 c12; lia))] at h
    refine q_237t hi (by lia) (by omega) ?_
    rw [if_neg (by decide)]; exact ri_i h
  refine q_237f hi (by lia) ?_
  rw [if_pos rfl]
  rw [if_neg (by (clear hi hk h hV hW c1 c2 c3 c4 c5 c6 c7 c8 c9 c10; lia))] at h
  exact ri_i h)
theorem q_290 {k : Int} (hi : in9_ M) (hk : KQ k (M 149 (M 6 12)) (M 151 (M 6 12))) (hl : lv_ k ≠ 0) (h : K (sh_ k) M) : Tr_ wd0 pg0 (d + 2) 290 [.inr (.inr 6)] M (ri_ K) Qt := t_290 fun V hV hW => b_290_0 (Tr_mono _) hV hW M (by
  have hlv : k = 43 ∨ k = 42 ∨ k = 261 ∨ k = 111 ∨ k = 260 ∨ k = 112 ∨ k = 262 ∨ k = 113 ∨ k = 243 ∨ k = 245 ∨ k = 242 ∨ k = 247 ∨ k = 237 := by
    refine Classical.byContradiction fun h9 => hl ?_
    unfold lv_
    rw [if_neg (by (clear hi hk hl h hV hW; lia)), if_neg (by (clear hi hk hl h hV hW; lia)), if_neg (by lia), if_neg (by (clear hi hk hl h hV hW; lia)), if_neg (by (clear hi hk hl h hV hW; lia))]
  unfold KQ at hk
  by_cases c1 : k = 43
  · refine q_229t hi (by omega) (by lia) ?_
    rw [if_neg (by decide)]
    rw [c1] at h; exact ri_i h
  refine q_229f hi (by omega) ?_
  rw [if_pos rfl]
  by_cases c2 : k = 42
  · refine q_229t hi (by (clear hi h hV hW; lia)) (by lia) ?_
    rw [if_neg (by decide)]
    rw [c2] at h; exact ri_i h
  refine q_229f hi (by (clear hi h hV hW; omega)) ?_
  rw [if_pos rfl]
  refine ⟨hi, ?_⟩
  have ev : M 151 (M 6 12) = k + 146 ∧ (110 ≤ k ∧ k ≤ 115) ∨ M 151 (M 6 12) = k - 200 ∧ 237 ≤ k := by omega
  have ew : w32 (M 151 (M 6 12)) = M 151 (M 6 12) := w32_id (by (clear hi hk hl h hV hW hlv c1 c2; omega)) (by omega)
  rw [ew]
  rcases hlv with e | e | e | e | e | e | e | e | e | e | e | e | e
  · exact absurd e c1
  · exact absurd e c2
  all_goals (rw [e] at h ev)
  · have e2 : M 151 (M 6 12) = 61 := by (clear hi hk hl h hV hW c1 c2 ew e; lia)
    rw [e2]; exact ri_i h
  · have e2 : M 151 (M 6 12) = 257 := by (clear hi hk hl h hV hW c1 c2 ew e; lia)
    rw [e2]; exact ri_i h
  · have e2 : M 151 (M 6 12) = 60 := by (clear hi hk hl h hV hW c1 c2 ew e; lia)
    rw [e2]; exact ri_i h
  · have e2 : M 151 (M 6 12) = 258 := by (clear hi hk hl h hV hW c1 c2 ew e; lia)
    rw [e2]; exact ri_i h
  · have e2 : M 151 (M 6 12) = 62 := by (clear hi hk hl h hV hW c1 c2 ew e; lia)
    rw [e2]; exact ri_i h
  · have e2 : M 151 (M 6 12) = 259 := by omega
    rw [e2]; exact ri_i h
  · have e2 : M 151 (M 6 12) = 43 := by (clear hi hk hl h hV hW c1 c2 ew e; lia)
    rw [e2]; exact ri_i h
  · have e2 : M 151 (M 6 12) = 45 := by (clear hi hk hl h hV hW c1 c2 ew e; lia)
    rw [e2]; exact ri_i h
  · have e2 : M 151 (M 6 12) = 42 := by (clear hi hk hl h hV hW c1 c2 ew e; lia)
    rw [e2]; exact ri_i h
  · have e2 : M 151 (M 6 12) = 47 := by (clear hi hk hl h hV hW c1 c2 ew e; lia)
    rw [e2]; exact ri_i h
  · have e2 : M 151 (M 6 12) = 37 := by (clear hi hk hl h hV hW c1 c2 ew e; lia)
    rw [e2]; exact ri_i h)
end QE
end T64_qe
section T65_qe
/-! Q's e's: reducing as a whole; a sign between two; the loop -/
/-- reducing comes from M to M' -/
def Red (d : Nat) (lev : Int) (M M' : mm_) : Prop := ∀ (a1 a2 : Int), 1 ≤ a2 → a2 ≤ lev → ∀ (V : vv_) (Qr : qr_) (Qt : qt_), Cl_ wd0 (Tr_ wd0 pg0 d) V Qr Qt m_286 → Wk_ V → V 11 [rr 6, ii a1, ii a2, none, none, none, none, none, none, none] [] M' → V 11 [rr 6, ii a1, ii a2, none, none, none, none, none, none, none] [] M
theorem Red_rf {d : Nat} {lev : Int} {M : mm_} : Red d lev M M := fun _ _ _ _ _ _ _ _ _ h => h
theorem Red_tr {d : Nat} {l1 l2 l3 : Int} {M M1 M2 : mm_} (h1 : Red d l1 M M1) (h2 : Red d l2 M1 M2) (a : l3 ≤ l1) (b : l3 ≤ l2) : Red d l3 M M2 := fun a1 a2 c1 c2 V Qr Qt hV hW h => h1 a1 a2 c1 (by omega) V Qr Qt hV hW (h2 a1 a2 c1 (by (clear h1 h2 a c1 hV hW h; omega)) V Qr Qt hV hW h)
theorem Red_le {d : Nat} {l1 l2 : Int} {M M1 : mm_} (h1 : Red d l1 M M1) (a : l2 ≤ l1) : Red d l2 M M1 := fun a1 a2 c1 c2 => h1 a1 a2 c1 (by omega)
/-- how strongly the latest sign binds -/
def tl_ : List (Int × Int) → Int
  | [] => 0
  | x :: _ => lo9_ x.1
/-- how many brackets are open -/
def nb_ : List (Int × Int) → Nat
  | [] => 0
  | x :: t => (if x.1 = 1 ∨ x.1 = 2 then 1 else 0) + nb_ t
theorem nb_ex : ∀ sg : List (Int × Int), 0 < nb_ sg → ∃ pend z rest, sg = pend ++ z :: rest ∧ (z.1 = 1 ∨ z.1 = 2) ∧ ∀ x, x ∈ pend → x.1 ≠ 1 ∧ x.1 ≠ 2
  | [], h => absurd h (by decide)
  | x :: t, h => by
    by_cases hx : x.1 = 1 ∨ x.1 = 2
    · exact ⟨[], x, t, rfl, hx, fun y hy => absurd hy (by simp)⟩
    · unfold nb_ at h
      rw [if_neg hx] at h
      obtain ⟨p, z, r, h1, h2, h3⟩ := nb_ex t (by omega)
      refine ⟨x :: p, z, r, by rw [h1]; rfl, h2, fun y hy => ?_⟩
      rcases List.mem_cons.mp hy with h4 | h4
      · rw [h4]; exact ⟨fun h5 => hx (.inl h5), fun h5 => hx (.inr h5)⟩
      · exact h3 y h4
/-- the sign that would close the latest bracket -/
def cb_ : List (Int × Int) → Int
  | [] => -1
  | x :: t => if x.1 = 1 then 241 else if x.1 = 2 then 293 else cb_ t
theorem cb_app {z : Int × Int} {rest : List (Int × Int)} (hz : z.1 = 1 ∨ z.1 = 2) : ∀ pend : List (Int × Int), (∀ x, x ∈ pend → x.1 ≠ 1 ∧ x.1 ≠ 2) → cb_ (pend ++ z :: rest) = if z.1 = 1 then 241 else 293
  | [], _ => by
    show (if z.1 = 1 then 241 else if z.1 = 2 then 293 else cb_ rest) = _
    by_cases h : z.1 = 1
    · rw [if_pos h, if_pos h]
    · rw [if_neg h, if_neg h, if_pos (by omega)]
  | x :: t, hp => by
    have hx := hp x (List.mem_cons_self)
    show (if x.1 = 1 then 241 else if x.1 = 2 then 293 else cb_ (t ++ z :: rest)) = _
    rw [if_neg hx.1, if_neg hx.2]
    exact cb_app hz t (fun y hy => hp y (List.mem_cons_of_mem _ hy))
theorem cb_nb : ∀ sg : List (Int × Int), nb_ sg = 0 → cb_ sg = -1
  | [], _ => rfl
  | x :: t, h => by
    unfold nb_ at h
    by_cases hx : x.1 = 1 ∨ x.1 = 2
    · rw [if_pos hx] at h; omega
    · rw [if_neg hx] at h
      show (if x.1 = 1 then 241 else if x.1 = 2 then 293 else cb_ t) = _
      rw [if_neg (fun h5 => hx (.inl h5)), if_neg (fun h5 => hx (.inr h5))]
      exact cb_nb t (by omega)
section QE
variable {d : Nat} {M : mm_} {sg : List (Int × Int)} {ws : List (Int × Int × Int)} {cm : List Int} {f : Int} {fm : List (Int × Int)} {K : Int → mm_ → Prop} {Kv : mm_ → Prop} {Qr : qr_} {Qt : qt_} {V : vv_}
theorem l_286_end (hV : Cl_ wd0 (Tr_ wd0 pg0 (d + 1)) V Qr Qt m_286) (hW : Wk_ V) {a1 a2 : Int} (hE : QE M sg ws cm f fm) (hs : (sg.length : Int) ≤ 1240) (ht : tl_ sg < a2) (h : Qr [] M) : V 11 [rr 6, ii a1, ii a2, none, none, none, none, none, none, none] [] M := by
  refine b_286_11 (Tr_mono _) hV hW a1 a2 M ?_
  cases sg with
  | nil =>
    rw [if_pos (by rw [hE.1]; simp)]
    exact h
  | cons x t =>
    have e112 : M 6 112 = (t.length : Int) + 1 := by rw [hE.1]; simp only [List.length_cons]; (clear hV hW h hE hs ht; lia)
    have e229 : M 229 (t.length : Int) = x.1 := hE.2.1.1
    simp only [List.length_cons] at hs
    have w1 : w32 (M 6 112 - 1) = (t.length : Int) := by rw [w32_id (by omega) (by omega)]; omega
    rw [if_neg (by omega), w1, e229]
    refine ⟨by (clear hV hW h hE ht e229; lia), q_287 ?_⟩
    rw [if_pos (show lo9_ x.1 < a2 from ht)]
    exact h
theorem q_286 {x lev : Int} {M1 : mm_} (hr : Red (d + 1) lev M M1) (h1 : 1 ≤ lev) (hx : x ≤ lev) (hE : QE M1 sg ws cm f fm) (hs : (sg.length : Int) ≤ 1240) (ht : tl_ sg < x ∨ tl_ sg < 1 ∧ x ≤ 1) (h : Kv M1) : Tr_ wd0 pg0 (d + 2) 286 [.inr (.inr 6), .inl x] M (rv_ Kv) Qt := t_286 fun V hV hW => b_286_0 (Tr_mono _) hV hW x M (by
  by_cases hx1 : x < 1
  · rw [if_pos hx1]
    exact hr x 1 (by omega) h1 V _ _ hV hW (l_286_end hV hW hE hs (by (clear hr h1 hx hE hs h hV hW; omega)) (rv_i h))
  · rw [if_neg hx1]
    exact hr x x (by omega) hx V _ _ hV hW (l_286_end hV hW hE hs (by (clear hr h1 hx hE hs h hV hW; omega)) (rv_i h)))
/-- what stands for a comparison behind a sign -/
def cn_ (lv c : Int) : Int := if lv = 3 then 1 else if lv ≤ 3 then 0 else c
theorem q_289 {k lev c a : Int} {M1 : mm_} (hr : Red (d + 1) lev M M1) (hlv : lv_ k ≠ 0) (hx : lv_ k ≤ lev) (hE : QE M1 sg ws (c :: cm) f fm) (hs : (sg.length : Int) < 1240) (hcm : (cm.length : Int) < 40) (hc : c = 0 ∨ c = 1) (ht : tl_ sg < lv_ k) (ha : M1 6 12 = a) (h0 : 0 ≤ a) (h3 : a < 1200) (hg : go_ M1) (hk : KQ k (M1 149 a) (M1 151 a))
    (h : Kv (nx_ (ho_ (up_ M1 234 (cm.length : Int) (cn_ (lv_ k) c)) (sh_ k) a))) : Tr_ wd0 pg0 (d + 3) 289 [.inr (.inr 6), .inl (lv_ k)] M (rv_ Kv) Qt := t_289 fun V hV hW => b_289_0 (Tr_mono _) hV hW (lv_ k) M (by
  have hr1 : 1 ≤ lv_ k := by
    have : lv_ k = 0 ∨ 1 ≤ lv_ k := by
      unfold lv_; repeat' split
      all_goals omega
    (clear hr hx hE hs hcm ht ha h0 h3 hg hk h hV hW; lia)
  subst ha
  refine q_286 hr (by (clear hr hlv hE hs hcm hc ht hg hV hW h0 h3 hk h; omega)) hx hE (by omega) (.inl ht) ?_
  have e118 : M1 6 118 = (cm.length : Int) := by have := hE.2.2.2.2.1; simp only [List.length_cons] at this; omega
  have e234 : M1 234 (cm.length : Int) = c := hE.2.2.2.2.2.1.1
  have e112 : M1 6 112 = (sg.length : Int) := hE.1
  rw [e118, e234]
  have fin : ∀ v : Int, v = cn_ (lv_ k) c → Tr_ wd0 pg0 (d + 2) 290 [.inr (.inr 6)] (up_ M1 234 (cm.length : Int) v) (ri_ fun v1 M2 => Tr_ wd0 pg0 (d + 2) 273 [.inr (.inr 6), .inl v1, .inl (M2 6 12)] M2 (rv_ fun M3 => Tr_ wd0 pg0 (d + 2) 230 [.inr (.inr 6)] M3 (rv_ fun M4 => rv_ Kv [] M4) Qt) Qt) Qt := by
    intro v hv
    subst hv
    refine q_290 (k := k) ⟨by rw [up_ne (by decide)]; omega, by rw [up_ne (by decide)]; omega⟩ (by rw [up_ne (by decide), up_ne (by decide), up_ne (by decide)]; exact hk) hlv ?_
    refine q_273 (by rw [up_ne (by decide)]; (clear hr hlv hx hE hcm hc ht hg hV hW hr1 h0 h3 hk h e118 e234; lia)) (by rw [up_ne (by decide)]; omega) ?_
    refine q_230g ?_ ?_ ?_ ?_
    · unfold go_; rw [ho_6 (by decide), ho_6 (by decide), up_ne (by decide)]; exact hg
    · rw [ho_6 (by decide), up_ne (by decide)]; exact h0
    · rw [ho_6 (by decide), up_ne (by decide)]; exact h3
    · rw [up_ne (by decide)]; exact rv_i h
  by_cases c1 : lv_ k = 3
  · rw [if_pos c1]
    refine ⟨⟨by (clear hr hlv hx hE hs hc ht hg hV hW hr1 h0 h3 hk h e234 e112 fin c1; lia), .inr rfl⟩, fin 1 ?_⟩
    unfold cn_; rw [if_pos c1]
  · rw [if_neg c1]
    by_cases c2 : lv_ k ≤ 3
    · rw [if_pos c2]
      refine ⟨⟨by omega, .inl rfl⟩, fin 0 ?_⟩
      unfold cn_; rw [if_neg c1, if_pos c2]
    · rw [if_neg c2]
      have ec : c = cn_ (lv_ k) c := by unfold cn_; rw [if_neg c1, if_neg c2]
      refine ⟨by omega, fun _ => ?_⟩
      by_cases c3 : c = 0
      · rw [if_pos c3]
        exact ⟨⟨by omega, .inl rfl⟩, fin 0 (by rw [← ec]; exact c3.symm)⟩
      · rw [if_neg c3]
        exact ⟨⟨by omega, .inr rfl⟩, fin 1 (by rw [← ec]; (clear hr hlv hx hE hs hcm ht hg hV hW hr1 h0 h3 hk h e118 e234 e112 fin; lia))⟩)
/-- in the loop, behind an operand: no closing bracket here -/
theorem l_271_26n (hV : Cl_ wd0 (Tr_ wd0 pg0 (d + 2)) V Qr Qt m_271) (hW : Wk_ V) {k a : Int} (hE : QE M sg ws cm f fm) (hs : (sg.length : Int) ≤ 1240) (hn : cm.length = nb_ sg + 1) (hg : go_ M) (ha : M 6 12 = a) (h0 : 0 ≤ a) (h3 : a < 1202) (hk : KQ k (M 149 a) (M 151 a)) (hc : k ≠ cb_ sg) (h : V 90 [rr 6, ii 1, ii 1, none] [] M) : V 26 [rr 6, ii 1, ii 1, none] [] M := by
  subst ha
  refine b_271_26 (Tr_mono _) hV hW 1 1 M ?_
  rw [if_neg (by decide)]
  refine q_227g hg ?_
  rw [if_pos rfl, if_neg (by decide)]
  have e118 : M 6 118 = (nb_ sg : Int) := by have := hE.2.2.2.2.1; rw [hn] at this; push_cast at this; (clear hV hW hE hs hn hg hc h h0 h3 hk; lia)
  by_cases c1 : M 6 118 ≤ 0
  · rw [if_pos c1]; exact h
  · rw [if_neg c1]
    obtain ⟨p, z, r, h1, h2, h4⟩ := nb_ex sg (by (clear hV hW hE hs hn hg hc h h0 h3 hk; omega))
    rw [h1] at hE hs hc
    have hlen : (r.length : Int) < 1240 := by simp only [List.length_append, List.length_cons] at hs; push_cast at hs; (clear hV hW hn hg h h0 h3 hk e118 c1 hc hE h1 h2 h4; omega)
    refine q_284 hE h2 h4 hs ?_
    have ez : M 229 (r.length : Int) = z.1 := by
      have : ∀ p : List (Int × Int), stS M (p ++ z :: r) → M 229 (r.length : Int) = z.1 := by
        intro p
        induction p with
        | nil => intro h9; exact h9.1
        | cons y t ih => intro h9; exact ih h9.2.2
      exact this p hE.2.1
    rw [ez]
    refine ⟨by (clear hV hW hn hg h h0 h3 hk e118 c1 hc hs hE h1 h2 h4 ez; omega), ?_⟩
    rw [cb_app h2 p h4] at hc
    unfold KQ at hk
    by_cases c2 : z.1 = 1
    · rw [if_pos c2]; rw [if_pos c2] at hc
      refine q_237f ⟨h0, h3⟩ (by (clear hV hW hn hg h h0 h3 e118 c1 hs hE h1 h4 hlen ez; omega)) ?_
      rw [if_pos rfl]; exact h
    · rw [if_neg c2]; rw [if_neg c2] at hc
      refine q_237f ⟨h0, h3⟩ (by (clear hV hW hn hg h h0 h3 e118 c1 hs hE h1 h4 hlen ez; omega)) ?_
      rw [if_pos rfl]; exact h
/-- a closing bracket here -/
theorem l_271_26c (hV : Cl_ wd0 (Tr_ wd0 pg0 (d + 2)) V Qr Qt m_271) (hW : Wk_ V) {k a : Int} (hE : QE M sg ws cm f fm) (hs : (sg.length : Int) ≤ 1240) (hn : cm.length = nb_ sg + 1) (hg : go_ M) (ha : M 6 12 = a) (h0 : 0 ≤ a) (h3 : a < 1202) (hk : KQ k (M 149 a) (M 151 a)) (hk0 : 0 ≤ k) (hc : k = cb_ sg) (h : Tr_ wd0 pg0 (d + 2) 285 [.inr (.inr 6)] M (rv_ fun M6 => V 26 [rr 6, ii 1, ii 1, none] [] M6) Qt) : V 26 [rr 6, ii 1, ii 1, none] [] M := by
  subst ha
  refine b_271_26 (Tr_mono _) hV hW 1 1 M ?_
  rw [if_neg (by decide)]
  refine q_227g hg ?_
  rw [if_pos rfl, if_neg (by decide)]
  have e118 : M 6 118 = (nb_ sg : Int) := by have := hE.2.2.2.2.1; rw [hn] at this; push_cast at this; (clear hV hW hE hs hn hg hk0 hc h h0 h3 hk; lia)
  have c1 : ¬ M 6 118 ≤ 0 := by
    intro h9
    have := cb_nb sg (by (clear hV hW hE hs hn hg hk0 hc h h0 h3 hk; lia))
    omega
  rw [if_neg c1]
  obtain ⟨p, z, r, h1, h2, h4⟩ := nb_ex sg (by omega)
  rw [h1] at hE hs hc
  have hlen : (r.length : Int) < 1240 := by simp only [List.length_append, List.length_cons] at hs; push_cast at hs; (clear hV hW hn hg hk0 h h0 h3 hk e118 c1 hc hE h1 h2 h4; omega)
  refine q_284 hE h2 h4 hs ?_
  have ez : M 229 (r.length : Int) = z.1 := by
    have : ∀ p : List (Int × Int), stS M (p ++ z :: r) → M 229 (r.length : Int) = z.1 := by
      intro p
      induction p with
      | nil => intro h9; exact h9.1
      | cons y t ih => intro h9; exact ih h9.2.2
    exact this p hE.2.1
  rw [ez]
  refine ⟨by (clear hV hW hn hg hk0 h h0 h3 hk e118 c1 hc hs hE h1 h2 h4 ez; omega), ?_⟩
  rw [cb_app h2 p h4] at hc
  unfold KQ at hk
  by_cases c2 : z.1 = 1
  · rw [if_pos c2]; rw [if_pos c2] at hc
    refine q_237t ⟨h0, h3⟩ (by omega) (by omega) ?_
    rw [if_neg (by decide)]; exact h
  · rw [if_neg c2]; rw [if_neg c2] at hc
    refine q_237t ⟨h0, h3⟩ (by (clear hV hW hn hg hk0 h h0 h3 e118 c1 hs hE h1 h4 hlen ez; omega)) (by (clear hV hW hn hg hk0 h h0 h3 e118 c1 hs hE h1 h4 hlen ez; omega)) ?_
    rw [if_neg (by decide)]; exact h
/-- a sign between two -/
theorem l_271_90b (hV : Cl_ wd0 (Tr_ wd0 pg0 (d + 3)) V Qr Qt m_271) (hW : Wk_ V) {k a : Int} (hi : in9_ M) (ha : M 6 12 = a) (hk : KQ k (M 149 a) (M 151 a)) (hlv : lv_ k ≠ 0) (hc : lv_ k = 3 → 0 ≤ M 6 118 ∧ M 6 118 < 40 ∧ M 234 (M 6 118) = 0) (h : Tr_ wd0 pg0 (d + 3) 289 [.inr (.inr 6), .inl (lv_ k)] M (rv_ fun M4 => V 26 [rr 6, ii 0, ii 1, none] [] M4) Qt) : V 90 [rr 6, ii 1, ii 1, none] [] M := by
  subst ha
  refine b_271_90 (Tr_mono _) hV hW 1 1 M ?_
  refine q_288 hi hk ?_
  rw [if_neg hlv]
  by_cases c1 : lv_ k = 3
  · rw [if_pos c1]
    have := hc c1
    rw [if_pos this.2.2]
    exact ⟨⟨this.1, this.2.1⟩, fun _ => h⟩
  · rw [if_neg c1]; exact h
/-- no sign that binds: the e ends; within brackets that is wrong -/
theorem l_271_90e (hV : Cl_ wd0 (Tr_ wd0 pg0 (d + 3)) V Qr Qt m_271) (hW : Wk_ V) {k a : Int} (hi : in9_ M) (ha : M 6 12 = a) (hk : KQ k (M 149 a) (M 151 a)) (hc : lv_ k = 0 ∨ lv_ k = 3 ∧ 0 ≤ M 6 118 ∧ M 6 118 < 40 ∧ M 234 (M 6 118) ≠ 0) (hn : M 6 118 ≤ 0 → V 26 [rr 6, ii 1, ii 0, none] [] M) (hw : 0 < M 6 118 → M 6 13 = 0 ∧ V 26 [rr 6, ii 1, ii 0, none] [] (bf_ M 1 (M 150 a))) : V 90 [rr 6, ii 1, ii 1, none] [] M := by
  subst ha
  refine b_271_90 (Tr_mono _) hV hW 1 1 M ?_
  refine q_288 hi hk ?_
  have fin : (if M 6 118 ≤ 0 then V 26 [rr 6, ii 1, ii 0, none] [] M else Tr_ wd0 pg0 (d + 3) 234 [.inr (.inr 6)] M (rv_ fun M2 => V 26 [rr 6, ii 1, ii 0, none] [] M2) Qt) := by
    by_cases c2 : M 6 118 ≤ 0
    · rw [if_pos c2]; exact hn c2
    · rw [if_neg c2]
      have := hw (by (clear hV hW hi hc hn hk hw; lia))
      exact q_234o hi this.1 this.2
  by_cases c1 : lv_ k = 0
  · rw [if_pos c1]; exact fin
  · rw [if_neg c1]
    have := hc.resolve_left c1
    rw [if_pos this.1, if_neg this.2.2.2]
    exact ⟨⟨this.2.1, this.2.2.1⟩, fun _ => fin⟩
end QE
end T65_qe
section T66_nm
/-! looking names up -/
/-- the first place at which g has v, from k on, among so many; none: -1 -/
def fi_ (g : Int → Int) (v : Int) : Nat → Int → Int
  | 0, _ => -1
  | n + 1, k => if g k = v then k else fi_ g v n (k + 1)
theorem fi_r (g : Int → Int) (v : Int) : ∀ (n : Nat) (k : Int), fi_ g v n k = -1 ∨ (k ≤ fi_ g v n k ∧ fi_ g v n k < k + n ∧ g (fi_ g v n k) = v)
  | 0, k => .inl rfl
  | n + 1, k => by
    unfold fi_
    split
    · rename_i h; exact .inr ⟨Int.le_refl _, by omega, h⟩
    · rcases fi_r g v n (k + 1) with h | h
      · exact .inl h
      · exact .inr ⟨by omega, by omega, h.2.2⟩
theorem fi_no (g : Int → Int) (v : Int) : ∀ (n : Nat) (k : Int), fi_ g v n k = -1 → 0 ≤ k → ∀ i, k ≤ i → i < k + n → g i ≠ v
  | 0, k, _, _, i, h1, h2 => by omega
  | n + 1, k, h, h0, i, h1, h2 => by
    unfold fi_ at h
    split at h
    · omega
    · rename_i h3
      by_cases h4 : i = k
      · rw [h4]; exact h3
      · exact fi_no g v n (k + 1) h (by omega) i (by omega) (by omega)
theorem fi_cg {g g' : Int → Int} {v v' : Int} : ∀ (n : Nat) (k : Int), (∀ i, k ≤ i → i < k + n → (g i = v ↔ g' i = v')) → fi_ g v n k = fi_ g' v' n k
  | 0, _, _ => rfl
  | n + 1, k, h => by
    unfold fi_
    rw [fi_cg n (k + 1) (fun i h1 h2 => h i (by omega) (by omega))]
    by_cases h1 : g k = v
    · rw [if_pos h1, if_pos ((h k (Int.le_refl _) (by omega)).mp h1)]
    · rw [if_neg h1, if_neg (fun h2 => h1 ((h k (Int.le_refl _) (by omega)).mpr h2))]
def tk9_ (M : mm_) (x : Int) : Prop := 0 ≤ x ∧ x < 1202 ∧ 0 ≤ M 71 x ∧ M 71 x ≤ M 72 x ∧ M 72 x ≤ 5000
section NM
variable {d : Nat} {M : mm_} {K : Int → mm_ → Prop} {Qr : qr_} {Qt : qt_} {V : vv_}
theorem x_199 {x y : Int} (hx : tk9_ M x) (hy : tk9_ M y) (ht : lk9_ M x y → K 1 M) (hf : ¬ lk9_ M x y → K 0 M) : Tr_ wd0 pg0 (d + 1) 199 [.inr (.inr 2), .inl x, .inl y] M (ri_ K) Qt :=
  s_199a ⟨hx.1, hx.2.1⟩ ⟨hy.1, hy.2.1⟩ hx.2.2.1 hx.2.2.2.1 hx.2.2.2.2 hy.2.2.1 hy.2.2.2.1 hy.2.2.2.2 (fun h1 h2 => ht ⟨h1, h2⟩) hf
theorem l_113a (hV : Cl_ wd0 (Tr_ wd0 pg0 (d + 1)) V Qr Qt m_113) (hW : Wk_ V) {b t : Int} {η : Int → Int} {m : Nat} (h0 : 0 ≤ b) (hz : b + m ≤ 20) (ht : tk9_ M t) (hn : ∀ k, b ≤ k → k < b + m → tk9_ M (M 56 k) ∧ (lk9_ M (M 56 k) t ↔ η (M 56 k) = η t)) :
    ∀ (n : Nat) (k : Int), 0 ≤ k → k + n = m → Qr [.inl (fi_ (fun i => η (M 56 (b + i))) (η t) n k)] M → V 3 [rr 1, rr 56, ii b, ii (m : Int), ii t, ii (b + k)] [] M := by
  intro n
  induction n with
  | zero =>
    intro k hk he h
    refine b_113a_3 (Tr_mono _) hV hW b _ t _ M ?_
    rw [w32_id (by omega) (by omega), if_neg (by omega)]
    exact h
  | succ n ih =>
    intro k hk he h
    refine b_113a_3 (Tr_mono _) hV hW b _ t _ M ?_
    rw [w32_id (by omega) (by omega), if_pos (by omega)]
    have hk1 := hn (b + k) (by (clear hV hW h0 hz ht hn ih he h; lia)) (by (clear hV hW h0 hz ht hn ih hk h; omega))
    unfold fi_ at h
    refine ⟨by (clear hV hW ht hn ih hk1 h; omega), x_199 hk1.1 ht (fun h1 => ?_) (fun h1 => ?_)⟩
    · rw [if_neg (by decide)]
      rw [if_pos (hk1.2.mp h1)] at h
      have : w32 (b + k - b) = k := by rw [w32_id (by omega) (by omega)]; omega
      rw [this]; exact h
    · rw [if_pos rfl]
      rw [if_neg (fun h2 => h1 (hk1.2.mpr h2))] at h
      have : w32 (b + k + 1) = b + (k + 1) := by rw [w32_id (by omega) (by omega)]; omega
      rw [this]
      exact ih (k + 1) (by omega) (by omega) h
theorem x_113a {b t : Int} {η : Int → Int} {m : Nat} (h0 : 0 ≤ b) (hz : b + m ≤ 20) (ht : tk9_ M t) (hn : ∀ k, b ≤ k → k < b + m → tk9_ M (M 56 k) ∧ (lk9_ M (M 56 k) t ↔ η (M 56 k) = η t)) (h : K (fi_ (fun i => η (M 56 (b + i))) (η t) m 0) M) : Tr_ wd0 pg0 (d + 2) 113 [.inr (.inr 1), .inr (.inr 56), .inl b, .inl (m : Int), .inl t] M (ri_ K) Qt := t_113a fun V hV hW => b_113a_0 (Tr_mono _) hV hW b _ t M (by
  have := l_113a hV hW h0 hz ht hn m 0 (by omega) (by omega) (ri_i h)
  rw [Int.add_zero] at this
  exact this)
theorem l_113b (hV : Cl_ wd0 (Tr_ wd0 pg0 (d + 1)) V Qr Qt m_113) (hW : Wk_ V) {b t : Int} {η : Int → Int} {m : Nat} (h0 : 0 ≤ b) (hz : b + m ≤ 10) (ht : tk9_ M t) (hn : ∀ k, b ≤ k → k < b + m → tk9_ M (M 57 k) ∧ (lk9_ M (M 57 k) t ↔ η (M 57 k) = η t)) :
    ∀ (n : Nat) (k : Int), 0 ≤ k → k + n = m → Qr [.inl (fi_ (fun i => η (M 57 (b + i))) (η t) n k)] M → V 3 [rr 1, rr 57, ii b, ii (m : Int), ii t, ii (b + k)] [] M := by
  intro n
  induction n with
  | zero =>
    intro k hk he h
    refine b_113b_3 (Tr_mono _) hV hW b _ t _ M ?_
    rw [w32_id (by omega) (by omega), if_neg (by omega)]
    exact h
  | succ n ih =>
    intro k hk he h
    refine b_113b_3 (Tr_mono _) hV hW b _ t _ M ?_
    rw [w32_id (by omega) (by omega), if_pos (by omega)]
    have hk1 := hn (b + k) (by omega) (by omega)
    unfold fi_ at h
    refine ⟨by omega, x_199 hk1.1 ht (fun h1 => ?_) (fun h1 => ?_)⟩
    · rw [if_neg (by decide)]
      rw [if_pos (hk1.2.mp h1)] at h
      have : w32 (b + k - b) = k := by rw [w32_id (by omega) (by omega)]; omega
      rw [this]; exact h
    · rw [if_pos rfl]
      rw [if_neg (fun h2 => h1 (hk1.2.mpr h2))] at h
      have : w32 (b + k + 1) = b + (k + 1) := by rw [w32_id (by omega) (by omega)]; omega
      rw [this]
      exact ih (k + 1) (by omega) (by omega) h
theorem x_113b {b t : Int} {η : Int → Int} {m : Nat} (h0 : 0 ≤ b) (hz : b + m ≤ 10) (ht : tk9_ M t) (hn : ∀ k, b ≤ k → k < b + m → tk9_ M (M 57 k) ∧ (lk9_ M (M 57 k) t ↔ η (M 57 k) = η t)) (h : K (fi_ (fun i => η (M 57 (b + i))) (η t) m 0) M) : Tr_ wd0 pg0 (d + 2) 113 [.inr (.inr 1), .inr (.inr 57), .inl b, .inl (m : Int), .inl t] M (ri_ K) Qt := t_113b fun V hV hW => b_113b_0 (Tr_mono _) hV hW b _ t M (by
  have := l_113b hV hW h0 hz ht hn m 0 (by omega) (by omega) (ri_i h)
  rw [Int.add_zero] at this
  exact this)
theorem l_113c (hV : Cl_ wd0 (Tr_ wd0 pg0 (d + 1)) V Qr Qt m_113) (hW : Wk_ V) {b t : Int} {η : Int → Int} {m : Nat} (h0 : 0 ≤ b) (hz : b + m ≤ 6) (ht : tk9_ M t) (hn : ∀ k, b ≤ k → k < b + m → tk9_ M (M 58 k) ∧ (lk9_ M (M 58 k) t ↔ η (M 58 k) = η t)) :
    ∀ (n : Nat) (k : Int), 0 ≤ k → k + n = m → Qr [.inl (fi_ (fun i => η (M 58 (b + i))) (η t) n k)] M → V 3 [rr 1, rr 58, ii b, ii (m : Int), ii t, ii (b + k)] [] M := by
  intro n
  induction n with
  | zero =>
    intro k hk he h
    refine b_113c_3 (Tr_mono _) hV hW b _ t _ M ?_
    rw [w32_id (by omega) (by omega), if_neg (by omega)]
    exact h
  | succ n ih =>
    intro k hk he h
    refine b_113c_3 (Tr_mono _) hV hW b _ t _ M ?_
    rw [w32_id (by omega) (by omega), if_pos (by omega)]
    have hk1 := hn (b + k) (by omega) (by omega)
    unfold fi_ at h
    refine ⟨by omega, x_199 hk1.1 ht (fun h1 => ?_) (fun h1 => ?_)⟩
    · rw [if_neg (by decide)]
      rw [if_pos (hk1.2.mp h1)] at h
      have : w32 (b + k - b) = k := by rw [w32_id (by omega) (by omega)]; omega
      rw [this]; exact h
    · rw [if_pos rfl]
      rw [if_neg (fun h2 => h1 (hk1.2.mpr h2))] at h
      have : w32 (b + k + 1) = b + (k + 1) := by rw [w32_id (by omega) (by (clear hV hW h0 ht hn ih hk hk1 h h1; omega))]; omega
      rw [this]
      exact ih (k + 1) (by omega) (by omega) h
theorem x_113c {b t : Int} {η : Int → Int} {m : Nat} (h0 : 0 ≤ b) (hz : b + m ≤ 6) (ht : tk9_ M t) (hn : ∀ k, b ≤ k → k < b + m → tk9_ M (M 58 k) ∧ (lk9_ M (M 58 k) t ↔ η (M 58 k) = η t)) (h : K (fi_ (fun i => η (M 58 (b + i))) (η t) m 0) M) : Tr_ wd0 pg0 (d + 2) 113 [.inr (.inr 1), .inr (.inr 58), .inl b, .inl (m : Int), .inl t] M (ri_ K) Qt := t_113c fun V hV hW => b_113c_0 (Tr_mono _) hV hW b _ t M (by
  have := l_113c hV hW h0 hz ht hn m 0 (by omega) (by omega) (ri_i h)
  rw [Int.add_zero] at this
  exact this)
theorem l_113d (hV : Cl_ wd0 (Tr_ wd0 pg0 (d + 1)) V Qr Qt m_113) (hW : Wk_ V) {b t : Int} {η : Int → Int} {m : Nat} (h0 : 0 ≤ b) (hz : b + m ≤ 72) (ht : tk9_ M t) (hn : ∀ k, b ≤ k → k < b + m → tk9_ M (M 59 k) ∧ (lk9_ M (M 59 k) t ↔ η (M 59 k) = η t)) :
    ∀ (n : Nat) (k : Int), 0 ≤ k → k + n = m → Qr [.inl (fi_ (fun i => η (M 59 (b + i))) (η t) n k)] M → V 3 [rr 1, rr 59, ii b, ii (m : Int), ii t, ii (b + k)] [] M := by
  intro n
  induction n with
  | zero =>
    intro k hk he h
    refine b_113d_3 (Tr_mono _) hV hW b _ t _ M ?_
    rw [w32_id (by omega) (by (clear hV hW h0 ht hn hk h; omega)), if_neg (by omega)]
    exact h
  | succ n ih =>
    intro k hk he h
    refine b_113d_3 (Tr_mono _) hV hW b _ t _ M ?_
    rw [w32_id (by omega) (by (clear hV hW h0 ht hn ih hk h; omega)), if_pos (by omega)]
    have hk1 := hn (b + k) (by omega) (by omega)
    unfold fi_ at h
    refine ⟨by omega, x_199 hk1.1 ht (fun h1 => ?_) (fun h1 => ?_)⟩
    · rw [if_neg (by decide)]
      rw [if_pos (hk1.2.mp h1)] at h
      have : w32 (b + k - b) = k := by rw [w32_id (by omega) (by omega)]; omega
      rw [this]; exact h
    · rw [if_pos rfl]
      rw [if_neg (fun h2 => h1 (hk1.2.mpr h2))] at h
      have : w32 (b + k + 1) = b + (k + 1) := by rw [w32_id (by omega) (by omega)]; omega
      rw [this]
      exact ih (k + 1) (by omega) (by omega) h
theorem x_113d {b t : Int} {η : Int → Int} {m : Nat} (h0 : 0 ≤ b) (hz : b + m ≤ 72) (ht : tk9_ M t) (hn : ∀ k, b ≤ k → k < b + m → tk9_ M (M 59 k) ∧ (lk9_ M (M 59 k) t ↔ η (M 59 k) = η t)) (h : K (fi_ (fun i => η (M 59 (b + i))) (η t) m 0) M) : Tr_ wd0 pg0 (d + 2) 113 [.inr (.inr 1), .inr (.inr 59), .inl b, .inl (m : Int), .inl t] M (ri_ K) Qt := t_113d fun V hV hW => b_113d_0 (Tr_mono _) hV hW b _ t M (by
  have := l_113d hV hW h0 hz ht hn m 0 (by omega) (by omega) (ri_i h)
  rw [Int.add_zero] at this
  exact this)
theorem l_113e (hV : Cl_ wd0 (Tr_ wd0 pg0 (d + 1)) V Qr Qt m_113) (hW : Wk_ V) {b t : Int} {η : Int → Int} {m : Nat} (h0 : 0 ≤ b) (hz : b + m ≤ 48) (ht : tk9_ M t) (hn : ∀ k, b ≤ k → k < b + m → tk9_ M (M 60 k) ∧ (lk9_ M (M 60 k) t ↔ η (M 60 k) = η t)) :
    ∀ (n : Nat) (k : Int), 0 ≤ k → k + n = m → Qr [.inl (fi_ (fun i => η (M 60 (b + i))) (η t) n k)] M → V 3 [rr 1, rr 60, ii b, ii (m : Int), ii t, ii (b + k)] [] M := by
  intro n
  induction n with
  | zero =>
    intro k hk he h
    refine b_113e_3 (Tr_mono _) hV hW b _ t _ M ?_
    rw [w32_id (by omega) (by omega), if_neg (by omega)]
    exact h
  | succ n ih =>
    intro k hk he h
    refine b_113e_3 (Tr_mono _) hV hW b _ t _ M ?_
    rw [w32_id (by omega) (by omega), if_pos (by omega)]
    have hk1 := hn (b + k) (by omega) (by omega)
    unfold fi_ at h
    refine ⟨by (clear hV hW ht hn ih hk1 h; omega), x_199 hk1.1 ht (fun h1 => ?_) (fun h1 => ?_)⟩
    · rw [if_neg (by decide)]
      rw [if_pos (hk1.2.mp h1)] at h
      have : w32 (b + k - b) = k := by rw [w32_id (by omega) (by omega)]; omega
      rw [this]; exact h
    · rw [if_pos rfl]
      rw [if_neg (fun h2 => h1 (hk1.2.mpr h2))] at h
      have : w32 (b + k + 1) = b + (k + 1) := by rw [w32_id (by omega) (by omega)]; (clear hV hW h0 hz ht hn ih hk he hk1 h h1; lia)
      rw [this]
      exact ih (k + 1) (by omega) (by omega) h
theorem x_113e {b t : Int} {η : Int → Int} {m : Nat} (h0 : 0 ≤ b) (hz : b + m ≤ 48) (ht : tk9_ M t) (hn : ∀ k, b ≤ k → k < b + m → tk9_ M (M 60 k) ∧ (lk9_ M (M 60 k) t ↔ η (M 60 k) = η t)) (h : K (fi_ (fun i => η (M 60 (b + i))) (η t) m 0) M) : Tr_ wd0 pg0 (d + 2) 113 [.inr (.inr 1), .inr (.inr 60), .inl b, .inl (m : Int), .inl t] M (ri_ K) Qt := t_113e fun V hV hW => b_113e_0 (Tr_mono _) hV hW b _ t M (by
  have := l_113e hV hW h0 hz ht hn m 0 (by omega) (by omega) (ri_i h)
  rw [Int.add_zero] at this
  exact this)
theorem l_113f (hV : Cl_ wd0 (Tr_ wd0 pg0 (d + 1)) V Qr Qt m_113) (hW : Wk_ V) {b t : Int} {η : Int → Int} {m : Nat} (h0 : 0 ≤ b) (hz : b + m ≤ 18) (ht : tk9_ M t) (hn : ∀ k, b ≤ k → k < b + m → tk9_ M (M 61 k) ∧ (lk9_ M (M 61 k) t ↔ η (M 61 k) = η t)) :
    ∀ (n : Nat) (k : Int), 0 ≤ k → k + n = m → Qr [.inl (fi_ (fun i => η (M 61 (b + i))) (η t) n k)] M → V 3 [rr 1, rr 61, ii b, ii (m : Int), ii t, ii (b + k)] [] M := by
  intro n
  induction n with
  | zero =>
    intro k hk he h
    refine b_113f_3 (Tr_mono _) hV hW b _ t _ M ?_
    rw [w32_id (by omega) (by omega), if_neg (by omega)]
    exact h
  | succ n ih =>
    intro k hk he h
    refine b_113f_3 (Tr_mono _) hV hW b _ t _ M ?_
    rw [w32_id (by omega) (by omega), if_pos (by omega)]
    have hk1 := hn (b + k) (by omega) (by omega)
    unfold fi_ at h
    refine ⟨by (clear hV hW ht hn ih hk1 h; omega), x_199 hk1.1 ht (fun h1 => ?_) (fun h1 => ?_)⟩
    · rw [if_neg (by decide)]
      rw [if_pos (hk1.2.mp h1)] at h
      have : w32 (b + k - b) = k := by rw [w32_id (by omega) (by omega)]; omega
      rw [this]; exact h
    · rw [if_pos rfl]
      rw [if_neg (fun h2 => h1 (hk1.2.mpr h2))] at h
      have : w32 (b + k + 1) = b + (k + 1) := by rw [w32_id (by omega) (by (clear hV hW h0 ht hn ih hk hk1 h h1; lia))]; omega
      rw [this]
      exact ih (k + 1) (by omega) (by omega) h
theorem x_113f {b t : Int} {η : Int → Int} {m : Nat} (h0 : 0 ≤ b) (hz : b + m ≤ 18) (ht : tk9_ M t) (hn : ∀ k, b ≤ k → k < b + m → tk9_ M (M 61 k) ∧ (lk9_ M (M 61 k) t ↔ η (M 61 k) = η t)) (h : K (fi_ (fun i => η (M 61 (b + i))) (η t) m 0) M) : Tr_ wd0 pg0 (d + 2) 113 [.inr (.inr 1), .inr (.inr 61), .inl b, .inl (m : Int), .inl t] M (ri_ K) Qt := t_113f fun V hV hW => b_113f_0 (Tr_mono _) hV hW b _ t M (by
  have := l_113f hV hW h0 hz ht hn m 0 (by omega) (by omega) (ri_i h)
  rw [Int.add_zero] at this
  exact this)
theorem l_113g (hV : Cl_ wd0 (Tr_ wd0 pg0 (d + 1)) V Qr Qt m_113) (hW : Wk_ V) {b t : Int} {η : Int → Int} {m : Nat} (h0 : 0 ≤ b) (hz : b + m ≤ 60) (ht : tk9_ M t) (hn : ∀ k, b ≤ k → k < b + m → tk9_ M (M 62 k) ∧ (lk9_ M (M 62 k) t ↔ η (M 62 k) = η t)) :
    ∀ (n : Nat) (k : Int), 0 ≤ k → k + n = m → Qr [.inl (fi_ (fun i => η (M 62 (b + i))) (η t) n k)] M → V 3 [rr 1, rr 62, ii b, ii (m : Int), ii t, ii (b + k)] [] M := by
  intro n
  induction n with
  | zero =>
    intro k hk he h
    refine b_113g_3 (Tr_mono _) hV hW b _ t _ M ?_
    rw [w32_id (by omega) (by (clear hV hW h0 ht hn hk h; lia)), if_neg (by omega)]
    exact h
  | succ n ih =>
    intro k hk he h
    refine b_113g_3 (Tr_mono _) hV hW b _ t _ M ?_
    rw [w32_id (by omega) (by omega), if_pos (by omega)]
    have hk1 := hn (b + k) (by omega) (by omega)
    unfold fi_ at h
    refine ⟨by omega, x_199 hk1.1 ht (fun h1 => ?_) (fun h1 => ?_)⟩
    · rw [if_neg (by decide)]
      rw [if_pos (hk1.2.mp h1)] at h
      have : w32 (b + k - b) = k := by rw [w32_id (by omega) (by omega)]; omega
      rw [this]; exact h
    · rw [if_pos rfl]
      rw [if_neg (fun h2 => h1 (hk1.2.mpr h2))] at h
      have : w32 (b + k + 1) = b + (k + 1) := by rw [w32_id (by omega) (by omega)]; omega
      rw [this]
      exact ih (k + 1) (by omega) (by omega) h
theorem x_113g {b t : Int} {η : Int → Int} {m : Nat} (h0 : 0 ≤ b) (hz : b + m ≤ 60) (ht : tk9_ M t) (hn : ∀ k, b ≤ k → k < b + m → tk9_ M (M 62 k) ∧ (lk9_ M (M 62 k) t ↔ η (M 62 k) = η t)) (h : K (fi_ (fun i => η (M 62 (b + i))) (η t) m 0) M) : Tr_ wd0 pg0 (d + 2) 113 [.inr (.inr 1), .inr (.inr 62), .inl b, .inl (m : Int), .inl t] M (ri_ K) Qt := t_113g fun V hV hW => b_113g_0 (Tr_mono _) hV hW b _ t M (by
  have := l_113g hV hW h0 hz ht hn m 0 (by omega) (by omega) (ri_i h)
  rw [Int.add_zero] at this
  exact this)
theorem x_112 {t : Int} {η : Int → Int} {m : Nat} (h2 : M 1 2 = 5) (hm : M 5 0 = m) (hz : (m : Int) ≤ 20) (ht : tk9_ M t) (hn : ∀ k : Int, 0 ≤ k → k < m → tk9_ M (M 56 k) ∧ (lk9_ M (M 56 k) t ↔ η (M 56 k) = η t)) (h : K (fi_ (fun i => η (M 56 i)) (η t) m 0) M) : Tr_ wd0 pg0 (d + 3) 112 [.inr (.inr 1), .inl t] M (ri_ K) Qt := t_112 fun V hV hW => b_112_0 (Tr_mono _) hV hW t M ⟨h2, by
  rw [hm]
  refine x_113a (η := η) (Int.le_refl _) (by omega) ht (fun k h1 h3 => hn k h1 (by omega)) (ri_i ?_)
  simp only [Int.zero_add]
  exact h⟩
theorem x_114 {t : Int} {η : Int → Int} {m : Nat} (h2 : M 1 2 = 5) (hm : M 5 1 = m) (hz : (m : Int) ≤ 10) (ht : tk9_ M t) (hn : ∀ k : Int, 0 ≤ k → k < m → tk9_ M (M 57 k) ∧ (lk9_ M (M 57 k) t ↔ η (M 57 k) = η t)) (h : K (fi_ (fun i => η (M 57 i)) (η t) m 0) M) : Tr_ wd0 pg0 (d + 3) 114 [.inr (.inr 1), .inl t] M (ri_ K) Qt := t_114 fun V hV hW => b_114_0 (Tr_mono _) hV hW t M ⟨h2, by
  rw [hm]
  refine x_113b (η := η) (Int.le_refl _) (by omega) ht (fun k h1 h3 => hn k h1 (by omega)) (ri_i ?_)
  simp only [Int.zero_add]
  exact h⟩
theorem x_115 {t : Int} {η : Int → Int} {m : Nat} (h2 : M 1 2 = 5) (hm : M 5 2 = m) (hz : (m : Int) ≤ 6) (ht : tk9_ M t) (hn : ∀ k : Int, 0 ≤ k → k < m → tk9_ M (M 58 k) ∧ (lk9_ M (M 58 k) t ↔ η (M 58 k) = η t)) (h : K (fi_ (fun i => η (M 58 i)) (η t) m 0) M) : Tr_ wd0 pg0 (d + 3) 115 [.inr (.inr 1), .inl t] M (ri_ K) Qt := t_115 fun V hV hW => b_115_0 (Tr_mono _) hV hW t M ⟨h2, by
  rw [hm]
  refine x_113c (η := η) (Int.le_refl _) (by omega) ht (fun k h1 h3 => hn k h1 (by omega)) (ri_i ?_)
  simp only [Int.zero_add]
  exact h⟩
theorem x_128 {t : Int} {η : Int → Int} {m : Nat} (h2 : M 1 2 = 5) (h3 : 0 ≤ M 1 18) (h4 : M 1 18 < 6) (hm : M 124 (M 1 18) = m) (hz : (m : Int) ≤ 8) (ht : tk9_ M t) (hn : ∀ k : Int, 0 ≤ k → k < m → tk9_ M (M 60 (8 * M 1 18 + k)) ∧ (lk9_ M (M 60 (8 * M 1 18 + k)) t ↔ η (M 60 (8 * M 1 18 + k)) = η t)) (h : K (fi_ (fun i => η (M 60 (8 * M 1 18 + i))) (η t) m 0) M) : Tr_ wd0 pg0 (d + 3) 128 [.inr (.inr 1), .inl t] M (ri_ K) Qt := t_128 fun V hV hW => b_128_0 (Tr_mono _) hV hW t M ⟨h2, ⟨h3, h4⟩, by
  rw [hm, w32_id (by omega) (by omega)]
  refine x_113e (η := η) (by omega) (by omega) ht (fun k h1 h5 => ?_) (ri_i h)
  have := hn (k - 8 * M 1 18) (by omega) (by omega)
  have e : 8 * M 1 18 + (k - 8 * M 1 18) = k := by (clear h2 h3 h4 hm hz ht hn h hV hW h1 h5 this; lia)
  rw [e] at this
  exact this⟩
theorem x_129 {t : Int} {η : Int → Int} {m : Nat} (h2 : M 1 2 = 5) (h3 : 0 ≤ M 1 18) (h4 : M 1 18 < 6) (hm : M 126 (M 1 18) = m) (hz : (m : Int) ≤ 3) (ht : tk9_ M t) (hn : ∀ k : Int, 0 ≤ k → k < m → tk9_ M (M 61 (3 * M 1 18 + k)) ∧ (lk9_ M (M 61 (3 * M 1 18 + k)) t ↔ η (M 61 (3 * M 1 18 + k)) = η t)) (h : K (fi_ (fun i => η (M 61 (3 * M 1 18 + i))) (η t) m 0) M) : Tr_ wd0 pg0 (d + 3) 129 [.inr (.inr 1), .inl t] M (ri_ K) Qt := t_129 fun V hV hW => b_129_0 (Tr_mono _) hV hW t M ⟨h2, ⟨h3, h4⟩, by
  rw [hm, w32_id (by omega) (by (clear h2 hm hz ht hn h hV hW; lia))]
  refine x_113f (η := η) (by (clear h2 hm hz ht hn h hV hW; lia)) (by omega) ht (fun k h1 h5 => ?_) (ri_i h)
  have := hn (k - 3 * M 1 18) (by (clear h2 h3 h4 hm hz ht hn h hV hW h5; lia)) (by omega)
  have e : 3 * M 1 18 + (k - 3 * M 1 18) = k := by (clear h2 h3 h4 hm hz ht hn h hV hW h1 h5 this; lia)
  rw [e] at this
  exact this⟩
theorem x_142 {t : Int} {η : Int → Int} {m : Nat} (h2 : M 1 2 = 5) (h3 : 0 ≤ M 1 18) (h4 : M 1 18 < 6) (hm : M 123 (M 1 18) = m) (hz : (m : Int) ≤ 12) (ht : tk9_ M t) (hn : ∀ k : Int, 0 ≤ k → k < m → tk9_ M (M 59 (12 * M 1 18 + k)) ∧ (lk9_ M (M 59 (12 * M 1 18 + k)) t ↔ η (M 59 (12 * M 1 18 + k)) = η t)) (h : K (fi_ (fun i => η (M 59 (12 * M 1 18 + i))) (η t) m 0) M) : Tr_ wd0 pg0 (d + 3) 142 [.inr (.inr 1), .inl t] M (ri_ K) Qt := t_142 fun V hV hW => b_142_0 (Tr_mono _) hV hW t M ⟨h2, ⟨h3, h4⟩, by
  rw [hm, w32_id (by omega) (by omega)]
  refine x_113d (η := η) (by (clear h2 hm hz ht hn h hV hW; lia)) (by omega) ht (fun k h1 h5 => ?_) (ri_i h)
  have := hn (k - 12 * M 1 18) (by omega) (by omega)
  have e : 12 * M 1 18 + (k - 12 * M 1 18) = k := by (clear h2 h3 h4 hm hz ht hn h hV hW h1 h5 this; lia)
  rw [e] at this
  exact this⟩
theorem q_251 {v : Int} {m : Nat} (hm : M 6 17 = m) (hz : (m : Int) ≤ 20) (h : K (fi_ (fun i => M 152 i) v m 0) M) : Tr_ wd0 pg0 (d + 1) 251 [.inr (.inr 6), .inr (.inl v)] M (ri_ K) Qt := t_251 fun V hV hW => b_251_0 (Tr_mono _) hV hW v M (by
  have key : ∀ (n : Nat) (k : Int), 0 ≤ k → k + n = m → ri_ K [.inl (fi_ (fun i => M 152 i) v n k)] M → V 2 [rr 6, jj v, none, ii k] [] M := by
    intro n
    induction n with
    | zero =>
      intro k hk he h
      refine b_251_2 (Tr_mono _) hV hW v k M ?_
      rw [hm, if_neg (by omega)]
      exact h
    | succ n ih =>
      intro k hk he h
      refine b_251_2 (Tr_mono _) hV hW v k M ?_
      rw [hm, if_pos (by omega)]
      unfold fi_ at h
      refine ⟨by omega, ?_⟩
      by_cases h1 : M 152 k = v
      · rw [if_pos (cmp9.mpr h1)]
        rw [if_pos h1] at h
        exact h
      · rw [if_neg (fun h2 => h1 (cmp9.mp h2)), w32_id (by omega) (by omega)]
        rw [if_neg h1] at h
        exact ih (k + 1) (by omega) (by omega) h
  exact key m 0 (by omega) (by omega) (ri_i h))
theorem q_300 {v : Int} {m : Nat} (hm : M 6 18 = m) (hz : (m : Int) ≤ 10) (h : K (fi_ (fun i => M 153 i) v m 0) M) : Tr_ wd0 pg0 (d + 1) 300 [.inr (.inr 6), .inr (.inl v)] M (ri_ K) Qt := t_300 fun V hV hW => b_300_0 (Tr_mono _) hV hW v M (by
  have key : ∀ (n : Nat) (k : Int), 0 ≤ k → k + n = m → ri_ K [.inl (fi_ (fun i => M 153 i) v n k)] M → V 2 [rr 6, jj v, none, ii k] [] M := by
    intro n
    induction n with
    | zero =>
      intro k hk he h
      refine b_300_2 (Tr_mono _) hV hW v k M ?_
      rw [hm, if_neg (by omega)]
      exact h
    | succ n ih =>
      intro k hk he h
      refine b_300_2 (Tr_mono _) hV hW v k M ?_
      rw [hm, if_pos (by omega)]
      unfold fi_ at h
      refine ⟨by omega, ?_⟩
      by_cases h1 : M 153 k = v
      · rw [if_pos (cmp9.mpr h1)]
        rw [if_pos h1] at h
        exact h
      · rw [if_neg (fun h2 => h1 (cmp9.mp h2)), w32_id (by omega) (by omega)]
        rw [if_neg h1] at h
        exact ih (k + 1) (by omega) (by omega) h
  exact key m 0 (by omega) (by omega) (ri_i h))
theorem q_247 {v : Int} {m : Nat} (hm : M 6 19 = m) (hz : (m : Int) ≤ 6) (h : K (fi_ (fun i => M 154 i) v m 0) M) : Tr_ wd0 pg0 (d + 1) 247 [.inr (.inr 6), .inr (.inl v)] M (ri_ K) Qt := t_247 fun V hV hW => b_247_0 (Tr_mono _) hV hW v M (by
  have key : ∀ (n : Nat) (k : Int), 0 ≤ k → k + n = m → ri_ K [.inl (fi_ (fun i => M 154 i) v n k)] M → V 2 [rr 6, jj v, none, ii k] [] M := by
    intro n
    induction n with
    | zero =>
      intro k hk he h
      refine b_247_2 (Tr_mono _) hV hW v k M ?_
      rw [hm, if_neg (by omega)]
      exact h
    | succ n ih =>
      intro k hk he h
      refine b_247_2 (Tr_mono _) hV hW v k M ?_
      rw [hm, if_pos (by omega)]
      unfold fi_ at h
      refine ⟨by (clear hm hV hW ih h; omega), ?_⟩
      by_cases h1 : M 154 k = v
      · rw [if_pos (cmp9.mpr h1)]
        rw [if_pos h1] at h
        exact h
      · rw [if_neg (fun h2 => h1 (cmp9.mp h2)), w32_id (by omega) (by (clear hm hV hW ih hk h h1; omega))]
        rw [if_neg h1] at h
        exact ih (k + 1) (by omega) (by omega) h
  exact key m 0 (by omega) (by omega) (ri_i h))
theorem q_276 {t v : Int} {m : Nat} (h0 : 0 ≤ t) (h6 : t < 6) (hm : M 171 t = m) (hz : (m : Int) ≤ 8) (h : K (if fi_ (fun i => M 177 (8 * t + i)) v m 0 = -1 then -1 else 8 * t + fi_ (fun i => M 177 (8 * t + i)) v m 0) M) : Tr_ wd0 pg0 (d + 1) 276 [.inr (.inr 6), .inl t, .inr (.inl v)] M (ri_ K) Qt := t_276 fun V hV hW => b_276_0 (Tr_mono _) hV hW t v M (by
  have key : ∀ (n : Nat) (k : Int), 0 ≤ k → k + n = m → ri_ K [.inl (if fi_ (fun i => M 177 (8 * t + i)) v n k = -1 then -1 else 8 * t + fi_ (fun i => M 177 (8 * t + i)) v n k)] M → V 3 [rr 6, ii t, jj v, none, ii k] [] M := by
    intro n
    induction n with
    | zero =>
      intro k hk he h
      refine b_276_3 (Tr_mono _) hV hW t v k M ?_
      rw [hm, if_neg (by omega)]
      exact ⟨⟨h0, h6⟩, h⟩
    | succ n ih =>
      intro k hk he h
      refine b_276_3 (Tr_mono _) hV hW t v k M ?_
      have w1 : w32 (w32 (8 * t) + k) = 8 * t + k := by rw [w32_id (x := 8 * t) (by (clear hm hz hV hW ih hk he h; lia)) (by omega), w32_id (by (clear hm hz hV hW ih he h; lia)) (by omega)]
      rw [hm, if_pos (by omega), w1]
      refine ⟨⟨h0, h6⟩, by (clear hm hV hW ih h; lia), ?_⟩
      by_cases h1 : M 177 (8 * t + k) = v
      · rw [if_pos (cmp9.mpr h1)]
        have e : fi_ (fun i => M 177 (8 * t + i)) v (n + 1) k = k := by unfold fi_; rw [if_pos h1]
        rw [e] at h
        rw [if_neg (by (clear h0 h6 hm hz hV hW ih he h h1; lia))] at h
        exact h
      · rw [if_neg (fun h2 => h1 (cmp9.mp h2)), w32_id (by (clear h0 h6 hm hz hV hW ih he h h1; lia)) (by omega)]
        have e : fi_ (fun i => M 177 (8 * t + i)) v (n + 1) k = fi_ (fun i => M 177 (8 * t + i)) v n (k + 1) := by conv => lhs; unfold fi_; rw [if_neg h1]
        rw [e] at h
        exact ih (k + 1) (by (clear h0 h6 hm hz hV hW ih he h h1 e; lia)) (by (clear h0 h6 hm hz hV hW ih hk h w1 h1 e; lia)) h
  exact key m 0 (by omega) (by (clear h0 h6 hm hz h hV hW key; lia)) (ri_i h))
theorem q_283 {t v : Int} {m : Nat} (h0 : 0 ≤ t) (h6 : t < 6) (hm : M 173 t = m) (hz : (m : Int) ≤ 3) (h : K (fi_ (fun i => M 178 (3 * t + i)) v m 0) M) : Tr_ wd0 pg0 (d + 1) 283 [.inr (.inr 6), .inl t, .inr (.inl v)] M (ri_ K) Qt := t_283 fun V hV hW => b_283_0 (Tr_mono _) hV hW t v M (by
  have key : ∀ (n : Nat) (k : Int), 0 ≤ k → k + n = m → ri_ K [.inl (fi_ (fun i => M 178 (3 * t + i)) v n k)] M → V 3 [rr 6, ii t, jj v, none, ii k] [] M := by
    intro n
    induction n with
    | zero =>
      intro k hk he h
      refine b_283_3 (Tr_mono _) hV hW t v k M ?_
      rw [hm, if_neg (by omega)]
      exact ⟨⟨h0, h6⟩, h⟩
    | succ n ih =>
      intro k hk he h
      refine b_283_3 (Tr_mono _) hV hW t v k M ?_
      have w1 : w32 (w32 (3 * t) + k) = 3 * t + k := by rw [w32_id (x := 3 * t) (by (clear hm hz hV hW ih hk he h; lia)) (by omega), w32_id (by (clear hm hz hV hW ih he h; lia)) (by omega)]
      rw [hm, if_pos (by omega), w1]
      refine ⟨⟨h0, h6⟩, by (clear hm hV hW ih h; lia), ?_⟩
      by_cases h1 : M 178 (3 * t + k) = v
      · rw [if_pos (cmp9.mpr h1)]
        have e : fi_ (fun i => M 178 (3 * t + i)) v (n + 1) k = k := by unfold fi_; rw [if_pos h1]
        rw [e] at h
        skip
        exact h
      · rw [if_neg (fun h2 => h1 (cmp9.mp h2)), w32_id (by (clear h0 h6 hm hz hV hW ih he h h1; lia)) (by (clear h0 h6 hm hV hW ih hk h h1; lia))]
        have e : fi_ (fun i => M 178 (3 * t + i)) v (n + 1) k = fi_ (fun i => M 178 (3 * t + i)) v n (k + 1) := by conv => lhs; unfold fi_; rw [if_neg h1]
        rw [e] at h
        exact ih (k + 1) (by (clear h0 h6 hm hz hV hW ih he h h1 e; lia)) (by omega) h
  exact key m 0 (by omega) (by omega) (ri_i h))
theorem q_267 {t v : Int} {m : Nat} (h0 : 0 ≤ t) (h6 : t < 6) (hm : M 174 t = m) (hz : (m : Int) ≤ 12) (h : K (fi_ (fun i => M 179 (12 * t + i)) v m 0) M) : Tr_ wd0 pg0 (d + 1) 267 [.inr (.inr 6), .inl t, .inr (.inl v)] M (ri_ K) Qt := t_267 fun V hV hW => b_267_0 (Tr_mono _) hV hW t v M (by
  have key : ∀ (n : Nat) (k : Int), 0 ≤ k → k + n = m → ri_ K [.inl (fi_ (fun i => M 179 (12 * t + i)) v n k)] M → V 3 [rr 6, ii t, jj v, none, ii k] [] M := by
    intro n
    induction n with
    | zero =>
      intro k hk he h
      refine b_267_3 (Tr_mono _) hV hW t v k M ?_
      rw [hm, if_neg (by omega)]
      exact ⟨⟨h0, h6⟩, h⟩
    | succ n ih =>
      intro k hk he h
      refine b_267_3 (Tr_mono _) hV hW t v k M ?_
      have w1 : w32 (w32 (12 * t) + k) = 12 * t + k := by rw [w32_id (x := 12 * t) (by (clear hm hz hV hW ih hk he h; lia)) (by omega), w32_id (by (clear hm hz hV hW ih he h; lia)) (by (clear hm hV hW ih hk h; omega))]
      rw [hm, if_pos (by omega), w1]
      refine ⟨⟨h0, h6⟩, by omega, ?_⟩
      by_cases h1 : M 179 (12 * t + k) = v
      · rw [if_pos (cmp9.mpr h1)]
        have e : fi_ (fun i => M 179 (12 * t + i)) v (n + 1) k = k := by unfold fi_; rw [if_pos h1]
        rw [e] at h
        skip
        exact h
      · rw [if_neg (fun h2 => h1 (cmp9.mp h2)), w32_id (by (clear h0 h6 hm hz hV hW ih he h h1; lia)) (by omega)]
        have e : fi_ (fun i => M 179 (12 * t + i)) v (n + 1) k = fi_ (fun i => M 179 (12 * t + i)) v n (k + 1) := by conv => lhs; unfold fi_; rw [if_neg h1]
        rw [e] at h
        exact ih (k + 1) (by (clear h0 h6 hm hz hV hW ih he h h1 e; lia)) (by omega) h
  exact key m 0 (by omega) (by omega) (ri_i h))
theorem q_268 {t v : Int} {m : Nat} (h0 : 0 ≤ t) (h6 : t < 6) (hm : M 175 t = m) (hz : (m : Int) ≤ 10) (h : K (fi_ (fun i => M 180 (10 * t + i)) v m 0) M) : Tr_ wd0 pg0 (d + 1) 268 [.inr (.inr 6), .inl t, .inr (.inl v)] M (ri_ K) Qt := t_268 fun V hV hW => b_268_0 (Tr_mono _) hV hW t v M (by
  have key : ∀ (n : Nat) (k : Int), 0 ≤ k → k + n = m → ri_ K [.inl (fi_ (fun i => M 180 (10 * t + i)) v n k)] M → V 3 [rr 6, ii t, jj v, none, ii k] [] M := by
    intro n
    induction n with
    | zero =>
      intro k hk he h
      refine b_268_3 (Tr_mono _) hV hW t v k M ?_
      rw [hm, if_neg (by omega)]
      exact ⟨⟨h0, h6⟩, h⟩
    | succ n ih =>
      intro k hk he h
      refine b_268_3 (Tr_mono _) hV hW t v k M ?_
      have w1 : w32 (w32 (10 * t) + k) = 10 * t + k := by rw [w32_id (x := 10 * t) (by omega) (by omega), w32_id (by omega) (by omega)]
      rw [hm, if_pos (by omega), w1]
      refine ⟨⟨h0, h6⟩, by (clear hm hV hW ih h; lia), ?_⟩
      by_cases h1 : M 180 (10 * t + k) = v
      · rw [if_pos (cmp9.mpr h1)]
        have e : fi_ (fun i => M 180 (10 * t + i)) v (n + 1) k = k := by unfold fi_; rw [if_pos h1]
        rw [e] at h
        skip
        exact h
      · rw [if_neg (fun h2 => h1 (cmp9.mp h2)), w32_id (by (clear h0 h6 hm hz hV hW ih he h h1; lia)) (by omega)]
        have e : fi_ (fun i => M 180 (10 * t + i)) v (n + 1) k = fi_ (fun i => M 180 (10 * t + i)) v n (k + 1) := by conv => lhs; unfold fi_; rw [if_neg h1]
        rw [e] at h
        exact ih (k + 1) (by (clear h0 h6 hm hz hV hW ih he h h1 e; lia)) (by omega) h
  exact key m 0 (by omega) (by omega) (ri_i h))
end NM
end T66_nm
section T67_syn
/-! where an e ends, by the kinds of tokens alone -/
/-- a token is passed -/
def gS (a : Int) : Option Int := if a < 1200 then some (a + 1) else none
def tS (κ : Int → Int) (k a : Int) : Option Int := if κ a = k then gS a else none
/-- 0 e, 1 con, 2 rel, 3 sum, 4 prod, 5 un, 6 first; 7 .. 10 the rest of 0, 1, 3, 4 behind their first part -/
def eS (κ : Int → Int) : Nat → Nat → Int → Int → Option Int
  | 0, _, _, _ => none
  | n + 1, 0, o, a => (eS κ n 1 o a).bind (eS κ n 7 o)
  | n + 1, 1, o, a => (eS κ n 2 o a).bind (eS κ n 8 o)
  | n + 1, 2, o, a => (eS κ n 3 o a).bind fun a1 => if lv_ (κ a1) = 3 then (gS a1).bind (eS κ n 3 o) else some a1
  | n + 1, 3, o, a => (eS κ n 4 o a).bind (eS κ n 9 o)
  | n + 1, 4, o, a => (eS κ n 5 o a).bind (eS κ n 10 o)
  | n + 1, 5, o, a => if κ a = 245 ∨ κ a = 41 then (if o = 12 then none else (gS a).bind (eS κ n 5 (o + 1))) else eS κ n 6 o a
  | n + 1, 6, o, a => if κ a = 101 ∨ 31 ≤ κ a ∧ κ a ≤ 40 ∧ κ a ≠ 39 then gS a else if κ a = 39 then (gS a).bind (tS κ 100)
      else if κ a = 100 then (gS a).bind fun a1 => if κ a1 = 291 then (if o = 12 then none else (gS a1).bind fun a2 => (eS κ n 0 (o + 1) a2).bind (tS κ 293)) else some a1
      else if κ a = 240 then (if o = 12 then none else (gS a).bind fun a1 => (eS κ n 0 (o + 1) a1).bind (tS κ 241)) else none
  | n + 1, 7, o, a => if lv_ (κ a) = 1 then (gS a).bind fun a1 => (eS κ n 1 o a1).bind (eS κ n 7 o) else some a
  | n + 1, 8, o, a => if lv_ (κ a) = 2 then (gS a).bind fun a1 => (eS κ n 2 o a1).bind (eS κ n 8 o) else some a
  | n + 1, 9, o, a => if lv_ (κ a) = 4 then (gS a).bind fun a1 => (eS κ n 4 o a1).bind (eS κ n 9 o) else some a
  | n + 1, 10, o, a => if lv_ (κ a) = 5 then (gS a).bind fun a1 => (eS κ n 5 o a1).bind (eS κ n 10 o) else some a
  | _ + 1, _ + 11, _, _ => none
theorem gS_s {a r : Int} (h : gS a = some r) : r = a + 1 ∧ a < 1200 := by
  unfold gS at h
  split at h
  · rename_i h1; cases h; exact ⟨rfl, h1⟩
  · cases h
theorem tS_s {κ : Int → Int} {k a r : Int} (h : tS κ k a = some r) : κ a = k ∧ r = a + 1 ∧ a < 1200 := by
  unfold tS at h
  split at h
  · rename_i h1; exact ⟨h1, gS_s h⟩
  · cases h
/-- an e takes at least one token, and stays within -/
theorem eS_gt (κ : Int → Int) : ∀ (n nt : Nat) (o a r : Int), nt ≤ 10 → eS κ n nt o a = some r → a ≤ 1200 → (if nt ≤ 6 then a + 1 ≤ r else a ≤ r) ∧ r ≤ 1200
  | 0, _, _, _, _, _, h, _ => by simp only [eS] at h; cases h
  | n + 1, nt, o, a, r, hnt, h, ha => by
    have two : ∀ (x y : Nat), x ≤ 6 → y ≤ 10 → 7 ≤ y → (eS κ n x o a).bind (eS κ n y o) = some r → a + 1 ≤ r ∧ r ≤ 1200 := by
      intro x y hx hy hy7 h
      cases h1 : eS κ n x o a with
      | none => rw [h1] at h; cases h
      | some a1 =>
        rw [h1] at h
        have i1 := eS_gt κ n x o a a1 (by (clear hnt ha hy hy7 h h1; lia)) h1 ha
        rw [if_pos hx] at i1
        have i2 := eS_gt κ n y o a1 r hy h i1.2
        rw [if_neg (by (clear hnt ha hx h h1 i1 i2; omega))] at i2
        (clear hnt ha hx hy hy7 h h1; omega)
    have loop : ∀ (x y : Nat), x ≤ 6 → y ≤ 10 → 7 ≤ y → ((gS a).bind fun a1 => (eS κ n x o a1).bind (eS κ n y o)) = some r → a ≤ r ∧ r ≤ 1200 := by
      intro x y hx hy hy7 h
      cases h0 : gS a with
      | none => rw [h0] at h; cases h
      | some a0 =>
        rw [h0] at h
        have g := gS_s h0
        change (eS κ n x o a0).bind (eS κ n y o) = some r at h
        cases h1 : eS κ n x o a0 with
        | none => rw [h1] at h; cases h
        | some a1 =>
          rw [h1] at h
          have i1 := eS_gt κ n x o a0 a1 (by omega) h1 (by (clear hnt ha two hx hy hy7 h0 h h1; omega))
          rw [if_pos hx] at i1
          have i2 := eS_gt κ n y o a1 r hy h i1.2
          rw [if_neg (by (clear hnt ha two hx h0 g h h1 i1 i2; lia))] at i2
          (clear hnt ha two hx hy hy7 h0 h h1; omega)
    match nt, hnt, h with
    | 0, _, h => rw [if_pos (by (clear hnt ha two loop h; omega))]; simp only [eS] at h; exact two 1 7 (by (clear hnt ha two loop h; omega)) (by omega) (by omega) h
    | 1, _, h => rw [if_pos (by omega)]; simp only [eS] at h; exact two 2 8 (by omega) (by omega) (by omega) h
    | 2, _, h =>
      rw [if_pos (by omega)]
      simp only [eS] at h
      cases h1 : eS κ n 3 o a with
      | none => rw [h1] at h; cases h
      | some a1 =>
        rw [h1] at h
        have i1 := eS_gt κ n 3 o a a1 (by (clear hnt ha two loop h h1; lia)) h1 ha
        rw [if_pos (by (clear hnt ha two loop h h1 i1; lia))] at i1
        change (if lv_ (κ a1) = 3 then (gS a1).bind (eS κ n 3 o) else some a1) = some r at h
        split at h
        · cases h2 : gS a1 with
          | none => rw [h2] at h; cases h
          | some a2 =>
            rw [h2] at h
            have g := gS_s h2
            have i2 := eS_gt κ n 3 o a2 r (by omega) h (by (clear hnt ha two loop h1 i1 h h2; omega))
            rw [if_pos (by omega)] at i2
            omega
        · cases h; omega
    | 3, _, h => rw [if_pos (by omega)]; simp only [eS] at h; exact two 4 9 (by omega) (by omega) (by omega) h
    | 4, _, h => rw [if_pos (by omega)]; simp only [eS] at h; exact two 5 10 (by omega) (by omega) (by omega) h
    | 5, _, h =>
      rw [if_pos (by omega)]
      simp only [eS] at h
      split at h
      · split at h
        · cases h
        · cases h2 : gS a with
          | none => rw [h2] at h; cases h
          | some a2 =>
            rw [h2] at h
            have g := gS_s h2
            have i2 := eS_gt κ n 5 (o + 1) a2 r (by omega) h (by omega)
            rw [if_pos (by (clear hnt ha two loop h h2 g i2; omega))] at i2
            (clear hnt ha two loop h h2; omega)
      · have i2 := eS_gt κ n 6 o a r (by omega) h ha
        rw [if_pos (by omega)] at i2
        exact i2
    | 6, _, h =>
      rw [if_pos (by omega)]
      simp only [eS] at h
      split at h
      · have := gS_s h; (clear hnt ha two loop h; omega)
      · split at h
        · cases h2 : gS a with
          | none => rw [h2] at h; cases h
          | some a2 =>
            rw [h2] at h
            have g := gS_s h2
            have := tS_s h
            omega
        · split at h
          · cases h2 : gS a with
            | none => rw [h2] at h; cases h
            | some a2 =>
              rw [h2] at h
              have g := gS_s h2
              change (if κ a2 = 291 then (if o = 12 then none else (gS a2).bind fun a2 => (eS κ n 0 (o + 1) a2).bind (tS κ 293)) else some a2) = some r at h
              split at h
              · split at h
                · cases h
                · cases h3 : gS a2 with
                  | none => rw [h3] at h; cases h
                  | some a3 =>
                    rw [h3] at h
                    have g3 := gS_s h3
                    change (eS κ n 0 (o + 1) a3).bind (tS κ 293) = some r at h
                    cases h4 : eS κ n 0 (o + 1) a3 with
                    | none => rw [h4] at h; cases h
                    | some a4 =>
                      rw [h4] at h
                      have i2 := eS_gt κ n 0 (o + 1) a3 a4 (by omega) h4 (by omega)
                      rw [if_pos (by omega)] at i2
                      have := tS_s h
                      omega
              · cases h; (clear hnt h ha two loop h2; omega)
          · split at h
            · split at h
              · cases h
              · cases h3 : gS a with
                | none => rw [h3] at h; cases h
                | some a3 =>
                  rw [h3] at h
                  have g3 := gS_s h3
                  change (eS κ n 0 (o + 1) a3).bind (tS κ 241) = some r at h
                  cases h4 : eS κ n 0 (o + 1) a3 with
                  | none => rw [h4] at h; cases h
                  | some a4 =>
                    rw [h4] at h
                    have i2 := eS_gt κ n 0 (o + 1) a3 a4 (by omega) h4 (by omega)
                    rw [if_pos (by omega)] at i2
                    have := tS_s h
                    omega
            · cases h
    | 7, _, h =>
      rw [if_neg (by omega)]
      simp only [eS] at h
      split at h
      · exact loop 1 7 (by omega) (by omega) (by omega) h
      · cases h; omega
    | 8, _, h =>
      rw [if_neg (by omega)]
      simp only [eS] at h
      split at h
      · exact loop 2 8 (by (clear hnt ha two loop h; lia)) (by omega) (by omega) h
      · cases h; omega
    | 9, _, h =>
      rw [if_neg (by omega)]
      simp only [eS] at h
      split at h
      · exact loop 4 9 (by omega) (by omega) (by omega) h
      · cases h; omega
    | 10, _, h =>
      rw [if_neg (by omega)]
      simp only [eS] at h
      split at h
      · exact loop 5 10 (by omega) (by omega) (by omega) h
      · cases h; omega
    | k + 11, hk, _ => omega
/-- how much there may be to do -/
def mS (nt : Nat) (a : Int) : Int := 8 * (1201 - a) + (if nt ≤ 6 then 6 - (nt : Int) else 7)
theorem bd_cg {x y : Option Int} {g g' : Int → Option Int} (h : x = y) (hg : ∀ r, x = some r → g r = g' r) : x.bind g = y.bind g' := by
  subst h
  cases x with
  | none => rfl
  | some r => exact hg r rfl
/-- more to do than there is does not matter -/
theorem eS_in (κ : Int → Int) : ∀ (n m nt : Nat) (o a : Int), nt ≤ 10 → 0 ≤ a → a ≤ 1200 → mS nt a < n → mS nt a < m → eS κ n nt o a = eS κ m nt o a
  | 0, _, nt, _, a, _, _, _, h, _ => by unfold mS at h; split at h <;> omega
  | _ + 1, 0, nt, _, a, _, _, _, _, h => by unfold mS at h; split at h <;> omega
  | n + 1, m + 1, nt, o, a, hnt, h0, ha, hn, hm => by
    have sub : ∀ (nt' : Nat) (o' a' : Int), nt' ≤ 10 → a ≤ a' → a' ≤ 1200 → mS nt' a' < mS nt a → eS κ n nt' o' a' = eS κ m nt' o' a' := fun nt' o' a' h1 h2 h3 h4 => eS_in κ n m nt' o' a' h1 (by (clear hnt hn hm h1 h3 h4; lia)) h3 (by omega) (by (clear hnt h0 ha hn h1 h2 h3; omega))
    have gt : ∀ (nt' : Nat) (o' a' r : Int), nt' ≤ 6 → a' ≤ 1200 → eS κ n nt' o' a' = some r → a' + 1 ≤ r ∧ r ≤ 1200 := by
      intro nt' o' a' r h1 h2 h3
      have := eS_gt κ n nt' o' a' r (by (clear hnt h0 ha hn hm sub h2 h3; lia)) h3 h2
      rw [if_pos h1] at this
      exact this
    have two : ∀ (x y : Nat), x ≤ 6 → nt < x → 7 ≤ y → y ≤ 10 → nt ≤ 6 → (eS κ n x o a).bind (eS κ n y o) = (eS κ m x o a).bind (eS κ m y o) := by
      intro x y hx hnx hy hy2 hn6
      refine bd_cg (sub x o a (by omega) (Int.le_refl _) ha (by unfold mS; rw [if_pos hx, if_pos hn6]; omega)) fun r hr => ?_
      have := gt x o a r hx ha hr
      exact sub y o r hy2 (by omega) this.2 (by unfold mS; rw [if_neg (by omega), if_pos hn6]; (clear h0 ha hn hm sub gt hx hnx hy hy2 hr; omega))
    have loop : ∀ (x y : Nat), x ≤ 6 → 7 ≤ y → y ≤ 10 → 7 ≤ nt → ((gS a).bind fun a1 => (eS κ n x o a1).bind (eS κ n y o)) = (gS a).bind fun a1 => (eS κ m x o a1).bind (eS κ m y o) := by
      intro x y hx hy hy2 hn7
      refine bd_cg rfl fun a1 h1 => ?_
      have g := gS_s h1
      refine bd_cg (sub x o a1 (by omega) (by (clear hnt h0 ha hn hm sub gt two hx hy hy2 hn7 h1; omega)) (by (clear hnt hn hm sub gt two hx hy hy2 hn7 h1; omega)) (by unfold mS; rw [if_pos hx, if_neg (by omega)]; (clear hnt h0 ha hn hm sub gt two hy hy2 hn7 h1; omega))) fun r hr => ?_
      have := gt x o a1 r hx (by omega) hr
      exact sub y o r hy2 (by omega) this.2 (by unfold mS; rw [if_neg (by (clear hnt h0 ha hn hm sub gt two hx hn7 h1 g hr this; lia)), if_neg (by (clear h0 ha hn hm sub gt two hx hy hy2 h1 g hr this; lia))]; (clear hnt h0 ha hn hm sub gt two hx hy hy2 hn7 h1 hr; lia))
    match nt, hnt, hn, hm, sub, two, loop with
    | 0, _, _, _, _, two, _ => simp only [eS]; exact two 1 7 (by omega) (by omega) (by omega) (by omega) (by omega)
    | 1, _, _, _, _, two, _ => simp only [eS]; exact two 2 8 (by omega) (by omega) (by omega) (by omega) (by omega)
    | 2, _, _, _, sub, _, _ =>
      simp only [eS]
      refine bd_cg (sub 3 o a (by omega) (Int.le_refl _) ha (by unfold mS; rw [if_pos (by omega), if_pos (by omega)]; omega)) fun r hr => ?_
      have i1 := gt 3 o a r (by omega) ha hr
      by_cases c : lv_ (κ r) = 3
      · rw [if_pos c, if_pos c]
        refine bd_cg rfl fun a1 h1 => ?_
        have g := gS_s h1
        exact sub 3 o a1 (by omega) (by (clear hnt h0 ha hn hm gt two loop sub hr c h1; omega)) (by omega) (by unfold mS; rw [if_pos (by omega), if_pos (by omega)]; omega)
      · rw [if_neg c, if_neg c]
    | 3, _, _, _, _, two, _ => simp only [eS]; exact two 4 9 (by omega) (by (clear hnt h0 ha hn hm sub gt loop two; omega)) (by omega) (by omega) (by omega)
    | 4, _, _, _, _, two, _ => simp only [eS]; exact two 5 10 (by omega) (by omega) (by omega) (by omega) (by omega)
    | 5, _, _, _, sub, _, _ =>
      simp only [eS]
      by_cases c : κ a = 245 ∨ κ a = 41
      · rw [if_pos c, if_pos c]
        by_cases c2 : o = 12
        · rw [if_pos c2, if_pos c2]
        · rw [if_neg c2, if_neg c2]
          refine bd_cg rfl fun a1 h1 => ?_
          have g := gS_s h1
          exact sub 5 (o + 1) a1 (by omega) (by omega) (by (clear hnt hn hm gt two loop sub c c2 h1; omega)) (by unfold mS; split <;> omega)
      · rw [if_neg c, if_neg c]
        exact sub 6 o a (by omega) (Int.le_refl _) ha (by unfold mS; rw [if_pos (by omega), if_pos (by omega)]; omega)
    | 6, _, _, _, sub, _, _ =>
      simp only [eS]
      by_cases c1 : κ a = 101 ∨ 31 ≤ κ a ∧ κ a ≤ 40 ∧ κ a ≠ 39
      · rw [if_pos c1, if_pos c1]
      · rw [if_neg c1, if_neg c1]
        by_cases c2 : κ a = 39
        · rw [if_pos c2, if_pos c2]
        · rw [if_neg c2, if_neg c2]
          by_cases c3 : κ a = 100
          · rw [if_pos c3, if_pos c3]
            refine bd_cg rfl fun a1 h1 => ?_
            have g := gS_s h1
            by_cases c4 : κ a1 = 291
            · rw [if_pos c4, if_pos c4]
              by_cases c5 : o = 12
              · rw [if_pos c5, if_pos c5]
              · rw [if_neg c5, if_neg c5]
                refine bd_cg rfl fun a2 h2 => ?_
                have g2 := gS_s h2
                refine bd_cg ?_ fun _ _ => rfl
                exact sub 0 (o + 1) a2 (by omega) (by omega) (by (clear hnt hn hm gt two loop sub c1 c2 c3 h1 c4 c5 h2; omega)) (by unfold mS; rw [if_pos (by omega), if_pos (by omega)]; omega)
            · rw [if_neg c4, if_neg c4]
          · rw [if_neg c3, if_neg c3]
            by_cases c4 : κ a = 240
            · rw [if_pos c4, if_pos c4]
              by_cases c5 : o = 12
              · rw [if_pos c5, if_pos c5]
              · rw [if_neg c5, if_neg c5]
                refine bd_cg rfl fun a2 h2 => ?_
                have g2 := gS_s h2
                refine bd_cg ?_ fun _ _ => rfl
                exact sub 0 (o + 1) a2 (by omega) (by omega) (by omega) (by unfold mS; rw [if_pos (by omega), if_pos (by omega)]; omega)
            · rw [if_neg c4, if_neg c4]
    | 7, _, _, _, _, _, loop =>
      simp only [eS]; by_cases c : lv_ (κ a) = 1
      · rw [if_pos c, if_pos c]; exact loop 1 7 (by omega) (by omega) (by omega) (by omega)
      · rw [if_neg c, if_neg c]
    | 8, _, _, _, _, _, loop =>
      simp only [eS]; by_cases c : lv_ (κ a) = 2
      · rw [if_pos c, if_pos c]; exact loop 2 8 (by (clear hnt h0 ha hn hm sub gt two loop c; omega)) (by omega) (by omega) (by omega)
      · rw [if_neg c, if_neg c]
    | 9, _, _, _, _, _, loop =>
      simp only [eS]; by_cases c : lv_ (κ a) = 4
      · rw [if_pos c, if_pos c]; exact loop 4 9 (by (clear hnt h0 ha hn hm sub gt two loop c; omega)) (by omega) (by omega) (by omega)
      · rw [if_neg c, if_neg c]
    | 10, _, _, _, _, _, loop =>
      simp only [eS]; by_cases c : lv_ (κ a) = 5
      · rw [if_pos c, if_pos c]; exact loop 5 10 (by (clear hnt h0 ha hn hm sub gt two loop c; omega)) (by (clear hnt h0 ha hn hm sub gt two loop c; omega)) (by omega) (by omega)
      · rw [if_neg c, if_neg c]
    | k + 11, hk, _, _, _, _, _ => (clear hnt h0 ha hn hm sub gt two loop; lia)
section EQ
variable {κ : Int → Int} {n : Nat} {o a : Int}
theorem eS_0 : eS κ (n + 1) 0 o a = (eS κ n 1 o a).bind (eS κ n 7 o) := by simp only [eS]
theorem eS_1 : eS κ (n + 1) 1 o a = (eS κ n 2 o a).bind (eS κ n 8 o) := by simp only [eS]
theorem eS_2 : eS κ (n + 1) 2 o a = (eS κ n 3 o a).bind fun a1 => if lv_ (κ a1) = 3 then (gS a1).bind (eS κ n 3 o) else some a1 := by simp only [eS]
theorem eS_3 : eS κ (n + 1) 3 o a = (eS κ n 4 o a).bind (eS κ n 9 o) := by simp only [eS]
theorem eS_4 : eS κ (n + 1) 4 o a = (eS κ n 5 o a).bind (eS κ n 10 o) := by simp only [eS]
theorem eS_5 : eS κ (n + 1) 5 o a = if κ a = 245 ∨ κ a = 41 then (if o = 12 then none else (gS a).bind (eS κ n 5 (o + 1))) else eS κ n 6 o a := by simp only [eS]
theorem eS_6 : eS κ (n + 1) 6 o a = if κ a = 101 ∨ 31 ≤ κ a ∧ κ a ≤ 40 ∧ κ a ≠ 39 then gS a else if κ a = 39 then (gS a).bind (tS κ 100)
      else if κ a = 100 then (gS a).bind fun a1 => if κ a1 = 291 then (if o = 12 then none else (gS a1).bind fun a2 => (eS κ n 0 (o + 1) a2).bind (tS κ 293)) else some a1
      else if κ a = 240 then (if o = 12 then none else (gS a).bind fun a1 => (eS κ n 0 (o + 1) a1).bind (tS κ 241)) else none := by simp only [eS]
theorem eS_7 : eS κ (n + 1) 7 o a = if lv_ (κ a) = 1 then (gS a).bind fun a1 => (eS κ n 1 o a1).bind (eS κ n 7 o) else some a := by simp only [eS]
theorem eS_8 : eS κ (n + 1) 8 o a = if lv_ (κ a) = 2 then (gS a).bind fun a1 => (eS κ n 2 o a1).bind (eS κ n 8 o) else some a := by simp only [eS]
theorem eS_9 : eS κ (n + 1) 9 o a = if lv_ (κ a) = 4 then (gS a).bind fun a1 => (eS κ n 4 o a1).bind (eS κ n 9 o) else some a := by simp only [eS]
theorem eS_10 : eS κ (n + 1) 10 o a = if lv_ (κ a) = 5 then (gS a).bind fun a1 => (eS κ n 5 o a1).bind (eS κ n 10 o) else some a := by simp only [eS]
end EQ
/-- where an e ends -/
def ES (κ : Int → Int) (nt : Nat) (o a : Int) : Option Int := eS κ 9700 nt o a
theorem ES_u {κ : Int → Int} {nt : Nat} {o a : Int} (h : nt ≤ 10) (h0 : 0 ≤ a) (h1 : a ≤ 1200) : ES κ nt o a = eS κ (9700 + 1) nt o a := eS_in κ _ _ nt o a h h0 h1 (by unfold mS; split <;> omega) (by unfold mS; split <;> omega)
theorem ES_gt {κ : Int → Int} {nt : Nat} {o a r : Int} (hn : nt ≤ 6) (h : ES κ nt o a = some r) (ha : a ≤ 1200) : a + 1 ≤ r ∧ r ≤ 1200 := by
  have := eS_gt κ 9700 nt o a r (by omega) h ha
  rw [if_pos hn] at this
  exact this
theorem ES_ge {κ : Int → Int} {nt : Nat} {o a r : Int} (hn : nt ≤ 10) (h : ES κ nt o a = some r) (ha : a ≤ 1200) : a ≤ r ∧ r ≤ 1200 := by
  have := eS_gt κ 9700 nt o a r hn h ha
  split at this <;> omega
section ES
variable {κ : Int → Int} {o a : Int}
theorem ES_0 (h0 : 0 ≤ a) (h1 : a ≤ 1200) : ES κ 0 o a = (ES κ 1 o a).bind (ES κ 7 o) := by rw [ES_u (by omega) h0 h1, eS_0]; rfl
theorem ES_1 (h0 : 0 ≤ a) (h1 : a ≤ 1200) : ES κ 1 o a = (ES κ 2 o a).bind (ES κ 8 o) := by rw [ES_u (by omega) h0 h1, eS_1]; rfl
theorem ES_2 (h0 : 0 ≤ a) (h1 : a ≤ 1200) : ES κ 2 o a = (ES κ 3 o a).bind fun a1 => if lv_ (κ a1) = 3 then (gS a1).bind (ES κ 3 o) else some a1 := by rw [ES_u (by omega) h0 h1, eS_2]; rfl
theorem ES_3 (h0 : 0 ≤ a) (h1 : a ≤ 1200) : ES κ 3 o a = (ES κ 4 o a).bind (ES κ 9 o) := by rw [ES_u (by omega) h0 h1, eS_3]; rfl
theorem ES_4 (h0 : 0 ≤ a) (h1 : a ≤ 1200) : ES κ 4 o a = (ES κ 5 o a).bind (ES κ 10 o) := by rw [ES_u (by omega) h0 h1, eS_4]; rfl
theorem ES_5 (h0 : 0 ≤ a) (h1 : a ≤ 1200) : ES κ 5 o a = if κ a = 245 ∨ κ a = 41 then (if o = 12 then none else (gS a).bind (ES κ 5 (o + 1))) else ES κ 6 o a := by rw [ES_u (by omega) h0 h1, eS_5]; rfl
theorem ES_6 (h0 : 0 ≤ a) (h1 : a ≤ 1200) : ES κ 6 o a = if κ a = 101 ∨ 31 ≤ κ a ∧ κ a ≤ 40 ∧ κ a ≠ 39 then gS a else if κ a = 39 then (gS a).bind (tS κ 100)
      else if κ a = 100 then (gS a).bind fun a1 => if κ a1 = 291 then (if o = 12 then none else (gS a1).bind fun a2 => (ES κ 0 (o + 1) a2).bind (tS κ 293)) else some a1
      else if κ a = 240 then (if o = 12 then none else (gS a).bind fun a1 => (ES κ 0 (o + 1) a1).bind (tS κ 241)) else none := by rw [ES_u (by omega) h0 h1, eS_6]; rfl
theorem ES_7 (h0 : 0 ≤ a) (h1 : a ≤ 1200) : ES κ 7 o a = if lv_ (κ a) = 1 then (gS a).bind fun a1 => (ES κ 1 o a1).bind (ES κ 7 o) else some a := by rw [ES_u (by omega) h0 h1, eS_7]; rfl
theorem ES_8 (h0 : 0 ≤ a) (h1 : a ≤ 1200) : ES κ 8 o a = if lv_ (κ a) = 2 then (gS a).bind fun a1 => (ES κ 2 o a1).bind (ES κ 8 o) else some a := by rw [ES_u (by omega) h0 h1, eS_8]; rfl
theorem ES_9 (h0 : 0 ≤ a) (h1 : a ≤ 1200) : ES κ 9 o a = if lv_ (κ a) = 4 then (gS a).bind fun a1 => (ES κ 4 o a1).bind (ES κ 9 o) else some a := by rw [ES_u (by omega) h0 h1, eS_9]; rfl
theorem ES_10 (h0 : 0 ≤ a) (h1 : a ≤ 1200) : ES κ 10 o a = if lv_ (κ a) = 5 then (gS a).bind fun a1 => (ES κ 5 o a1).bind (ES κ 10 o) else some a := by rw [ES_u (by omega) h0 h1, eS_10]; rfl
end ES
end T67_syn
section T68_er
/-- numbers that a proof may choose: room for notes; how early Q's fault lies at least, by the labels passed; X's fault key where a body, a head begins (0: any) -/
def gh_ : Type := Nat × (Int → Int) × Int × Int
def gg_ [Inhabited gh_] : Nat := (default : gh_).1
def bb_ [Inhabited gh_] : Int → Int := (default : gh_).2.1
def ff_ [Inhabited gh_] : Int := (default : gh_).2.2.1
def hh_ [Inhabited gh_] : Int := (default : gh_).2.2.2
/-! the e's of X and Q in step: what is said of the two -/
/-- a fault and its place as one number; none is behind all -/
def kk_ (f p : Int) : Int := if f = 0 then 1000000 else 8 * p + f
def vk_ (f p : Int) : Prop := f = 0 ∨ (1 ≤ f ∧ f ≤ 7 ∧ 0 ≤ p ∧ p ≤ 5000)
/-- X's fault is the first of Q's and of one that was told before -/
def NR [Inhabited gh_] (F : Int) (Mx Mq : mm_) : Prop := vk_ (Mx 1 4) (Mx 1 5) ∧ vk_ (Mq 6 13) (Mq 6 14) ∧ kk_ (Mx 1 4) (Mx 1 5) = min F (kk_ (Mq 6 13) (Mq 6 14)) ∧ F ≤ 1000000 ∧ (Mq 6 16 = 0 ∨ kk_ (Mq 6 13) (Mq 6 14) ≤ bb_ (Mx 1 19))
/-- what an e of X leaves as it is -/
def XF (M M' : mm_) : Prop := Fr_ [1, 5, 142] M M' ∧ (∀ i : Int, i ≠ 3 → i ≠ 4 → i ≠ 5 → i ≠ 6 → i ≠ 7 → M' 1 i = M 1 i) ∧ (∀ i : Int, i ≠ 3 → M' 5 i = M 5 i)
theorem XF_rf [Inhabited gh_] {M : mm_} : XF M M := ⟨Fr_rf, fun _ _ _ _ _ _ => rfl, fun _ _ => rfl⟩
theorem XF_tr [Inhabited gh_] {M M1 M2 : mm_} (h1 : XF M M1) (h2 : XF M1 M2) : XF M M2 := ⟨Fr_tr h1.1 h2.1, fun i a b c e g => (h2.2.1 i a b c e g).trans (h1.2.1 i a b c e g), fun i a => (h2.2.2 i a).trans (h1.2.2 i a)⟩
/-- X's steps from a place on, the latest first -/
def stX (M : mm_) (c : Int) : List Int → Prop
  | [] => True
  | x :: t => M 142 (c + t.length) = x ∧ stX M c t
def XE (M : mm_) (c : Int) (cd : List Int) : Prop := M 5 3 = c + cd.length ∧ stX M c cd
theorem stX_c [Inhabited gh_] {M M' : mm_} {c : Int} : ∀ (l : List Int), (∀ i : Int, c ≤ i → i < c + l.length → M' 142 i = M 142 i) → stX M c l → stX M' c l
  | [], _, _ => trivial
  | x :: t, h, hs => ⟨(h (c + t.length) (by omega) (by simp only [List.length_cons]; omega)).trans hs.1, stX_c t (fun i h0 hi => h i h0 (by simp only [List.length_cons]; (clear h hs h0; omega))) hs.2⟩
/-- X's steps of a form -/
def en_1 (Mq : mm_) (x : Int × Int) : List Int :=
  if x.1 = 1 then [x.2, 0] else if x.1 = 5 then [x.2 + 1] else if x.1 = 8 then [5] else if x.1 = 9 then [6] else if x.1 = 10 then [x.2, 7]
  else if x.1 = 11 then [Mq 184 x.2, 8] else if x.1 = 12 then [Mq 183 x.2, Mq 184 x.2, 9] else if x.1 = 13 then [15] else if x.1 = 14 then [16]
  else if x.1 < 25 then [x.1 - 10] else if x.1 < 31 then [x.1 - 6] else [x.1 - 14]
/-- of forms, the latest first -/
def er_ (Mq : mm_) : List (Int × Int) → List Int
  | [] => []
  | x :: t => en_1 Mq x ++ er_ Mq t
theorem er_app [Inhabited gh_] {Mq : mm_} : ∀ l1 l2 : List (Int × Int), er_ Mq (l1 ++ l2) = er_ Mq l1 ++ er_ Mq l2
  | [], _ => rfl
  | x :: t, l2 => by show en_1 Mq x ++ er_ Mq (t ++ l2) = (en_1 Mq x ++ er_ Mq t) ++ er_ Mq l2; rw [er_app t l2, List.append_assoc]
/-- sorts of what a form takes and leaves: 1 int, 2 bool, 3 pid -/
def ts_ (Mq : mm_) (x : Int × Int) (s s' : List Int) : Prop :=
  (x.1 = 1 ∧ ∃ t, (1 ≤ t ∧ t ≤ 3) ∧ ((t = 2 → x.2 = 0 ∨ x.2 = 1) ∧ 0 ≤ x.2 ∧ x.2 < 1000000000) ∧ s' = t :: s) ∨ (x.1 = 5 ∧ 0 ≤ x.2 ∧ x.2 ≤ 3 ∧ s' = 3 :: s) ∨ ((x.1 = 8 ∨ x.1 = 9) ∧ s' = 1 :: s) ∨ (x.1 = 10 ∧ 0 ≤ x.2 ∧ x.2 < Mq 173 (Mq 6 61) ∧ s' = 2 :: s)
  ∨ (x.1 = 11 ∧ 8 * Mq 6 61 ≤ x.2 ∧ x.2 < 8 * Mq 6 61 + Mq 171 (Mq 6 61) ∧ Mq 183 x.2 = 0 ∧ s' = Mq 182 x.2 :: s) ∨ (x.1 = 12 ∧ 8 * Mq 6 61 ≤ x.2 ∧ x.2 < 8 * Mq 6 61 + Mq 171 (Mq 6 61) ∧ 0 < Mq 183 x.2 ∧ ∃ r, s = 1 :: r ∧ s' = Mq 182 x.2 :: r)
  ∨ ((x.1 = 13 ∨ x.1 = 14) ∧ ∃ r, s = pw_ x.1 :: r ∧ s' = pw_ x.1 :: r) ∨ ((x.1 = 25 ∨ x.1 = 26) ∧ ∃ t r, s = t :: t :: r ∧ s' = 2 :: r)
  ∨ (20 ≤ x.1 ∧ x.1 ≤ 32 ∧ x.1 ≠ 25 ∧ x.1 ≠ 26 ∧ ∃ r, s = rw_ x.1 :: rw_ x.1 :: r ∧ s' = (if x.1 < 25 then 1 else 2) :: r)
/-- of forms, the latest first, with so much room -/
def ty_ (Mq : mm_) (D : Int) : List (Int × Int) → List Int → List Int → Prop
  | [], s, s' => s' = s
  | x :: l, s, s' => ∃ s1, ty_ Mq D l s s1 ∧ ts_ Mq x s1 s' ∧ (s'.length : Int) ≤ D
theorem ty_app [Inhabited gh_] {Mq : mm_} {D : Int} : ∀ (l2 l1 : List (Int × Int)) (s s1 s' : List Int), ty_ Mq D l1 s s1 → ty_ Mq D l2 s1 s' → ty_ Mq D (l2 ++ l1) s s'
  | [], _, _, s1, s', h1, h2 => by rw [show s' = s1 from h2]; exact h1
  | x :: t, l1, s, s1, s', h1, h2 => by
    obtain ⟨s2, a, b, c⟩ := h2
    exact ⟨s2, ty_app t l1 s s1 s2 h1 a, b, c⟩
/-- the tables of the type at hand -/
def nm9_ (M : mm_) (i : Int) : Prop := gd_ M i ∧ M 70 i = 100
def VT (Mx Mq : mm_) : Prop := Mx 1 2 = 5 ∧ Mq 6 61 = Mx 1 18 ∧ 0 ≤ Mx 1 18 ∧ Mx 1 18 < 6 ∧ (0 ≤ Mx 124 (Mx 1 18) ∧ Mx 124 (Mx 1 18) ≤ 8 ∧ Mq 171 (Mx 1 18) = Mx 124 (Mx 1 18)) ∧ (0 ≤ Mx 126 (Mx 1 18) ∧ Mx 126 (Mx 1 18) ≤ 3 ∧ Mq 173 (Mx 1 18) = Mx 126 (Mx 1 18))
  ∧ (∀ k : Int, 0 ≤ k → k < Mx 124 (Mx 1 18) → nm9_ Mx (Mx 60 (8 * Mx 1 18 + k)) ∧ Mq 177 (8 * Mx 1 18 + k) = Mq 151 (Mx 60 (8 * Mx 1 18 + k)) ∧ Mx 130 (8 * Mx 1 18 + k) + 1 = Mq 182 (8 * Mx 1 18 + k) ∧ Mx 131 (8 * Mx 1 18 + k) = Mq 183 (8 * Mx 1 18 + k) ∧ Mx 132 (8 * Mx 1 18 + k) = Mq 184 (8 * Mx 1 18 + k) ∧ 0 ≤ Mx 130 (8 * Mx 1 18 + k) ∧ Mx 130 (8 * Mx 1 18 + k) ≤ 2 ∧ 0 ≤ Mx 131 (8 * Mx 1 18 + k))
  ∧ (∀ k : Int, 0 ≤ k → k < Mx 126 (Mx 1 18) → nm9_ Mx (Mx 61 (3 * Mx 1 18 + k)) ∧ Mq 178 (3 * Mx 1 18 + k) = Mq 151 (Mx 61 (3 * Mx 1 18 + k)))
/-- X and Q stand at the same token -/
def ER [Inhabited gh_] (b F : Int) (Mx Mq : mm_) (a o : Int) : Prop :=
  gd_ Mx a ∧ Mx 1 3 = a ∧ Mq 6 12 = a ∧ Mx 1 6 = o ∧ Mq 6 15 = o ∧ (0 ≤ o ∧ o ≤ 12) ∧ Mx 1 8 = b ∧ Mq 6 16 = b ∧ (b = 0 ∨ b = 1) ∧ (b = 0 → Mq 6 13 = 0) ∧ NR F Mx Mq ∧ 0 ≤ Mx 1 7 ∧ Mx 1 7 + 8 * (1201 - a) ≤ 1000001000 - (gg_ : Int) ∧ 0 ≤ Mx 5 3 ∧ Mx 5 3 ≤ 9 * a + 1000
/-- what waits in Q -/
def LI (sg : List (Int × Int)) (ws : List (Int × Int × Int)) (c : Int) (cm : List Int) (f : Int) (fm : List (Int × Int)) (a o : Int) : Prop :=
  (∀ x, x ∈ sg → 0 ≤ x.2 ∧ x.2 < 1202) ∧ (∀ x, x ∈ ws → x.2.2 = 0 ∨ x.2.2 = 1) ∧ (c = 0 ∨ c = 1) ∧ cm.length = nb_ sg ∧ (cm.length : Int) ≤ o ∧ (sg.length : Int) ≤ a ∧ (ws.length : Int) ≤ a ∧ 0 ≤ f ∧ f + fm.length + sg.length ≤ 1500 + a
/-- an e (or a part of one) has been read by both -/
def EP [Inhabited gh_] (need b F : Int) (Mx Mq Mx' Mq' : mm_) (a a' o : Int) (sg : List (Int × Int)) (ws : List (Int × Int × Int)) (c' : Int) (cm : List Int) (f : Int) (fm : List (Int × Int)) (cc : Int) (cd y : List Int) (s t bd : Int) (l : List (Int × Int)) : Prop :=
  a < a' ∧ XF Mx Mx' ∧ QF Mq Mq' ∧ ER b F Mx' Mq' a' o ∧ QE Mq' sg ((t, Mx 71 a, bd) :: ws) (c' :: cm) f (l ++ fm) ∧ (bd = 0 ∨ bd = 1) ∧ (l.length : Int) ≤ a' - a
  ∧ (XE Mx' cc (y ++ cd) ∧ (b = 0 → y = []) ∧ (b = 1 → bd = 0 → y = er_ Mq l) ∧ (y.length : Int) ≤ 3 * (a' - a))
  ∧ (Mx' 1 7 - 8 * a' + 4 ≤ Mx 1 7 - 8 * a ∧ Mx 1 7 ≤ Mx' 1 7)
  ∧ (b = 1 → (bd = 0 → s = t - 1 ∧ 1 ≤ t ∧ t ≤ 3 ∧ Mx' 1 7 = Mx 1 7 ∧ fqq_ Mq' = fqq_ Mq) ∧ (bd = 1 → (s = -1 ∨ s = t - 1) ∧ Mx 1 7 < Mx' 1 7 ∧ kk_ (Mq' 6 13) (Mq' 6 14) < 8 * Mx 71 a'))
  ∧ (b = 1 → bd = 0 → ∀ (st : List Int) (D : Int), st.length + need ≤ D → ty_ Mq D l st (t :: st))
theorem kk_nt1 [Inhabited gh_] {M : mm_} {k t : Int} (h : vk_ (M 1 4) (M 1 5)) (h1 : 1 ≤ k) (h2 : k ≤ 7) (h3 : 0 ≤ M 71 t) (h4 : M 71 t ≤ 5000) : kk_ (nt1_ M k t 1 4) (nt1_ M k t 1 5) = min (kk_ (M 1 4) (M 1 5)) (8 * M 71 t + k) ∧ vk_ (nt1_ M k t 1 4) (nt1_ M k t 1 5) := by
  unfold nt1_
  by_cases c : M 1 4 = 0 ∨ M 71 t < M 1 5 ∨ M 71 t = M 1 5 ∧ k < M 1 4
  · rw [if_pos c]
    have e1 : up_ (up_ (up_ M 1 7 (M 1 7 + 1)) 1 4 k) 1 5 (M 71 t) 1 4 = k := by rw [up_off (by decide), up_at]
    have e2 : up_ (up_ (up_ M 1 7 (M 1 7 + 1)) 1 4 k) 1 5 (M 71 t) 1 5 = M 71 t := by rw [up_at]
    rw [e1, e2]
    unfold kk_ vk_ at *
    split
    · (clear h h3 h4 c e2; lia)
    · split <;> omega
  · rw [if_neg c]
    have e1 : up_ M 1 7 (M 1 7 + 1) 1 4 = M 1 4 := by rw [up_off (by decide)]
    have e2 : up_ M 1 7 (M 1 7 + 1) 1 5 = M 1 5 := by rw [up_off (by decide)]
    rw [e1, e2]
    unfold kk_ vk_ at *
    split <;> (clear e1; lia)
theorem kk_np [Inhabited gh_] {q : Int × Int} {k p : Int} (h : vk_ q.1 q.2) (h1 : 1 ≤ k) (h2 : k ≤ 7) (h3 : 0 ≤ p) (h4 : p ≤ 5000) : kk_ (np_ 1 q k p).1 (np_ 1 q k p).2 = min (kk_ q.1 q.2) (8 * p + k) ∧ vk_ (np_ 1 q k p).1 (np_ 1 q k p).2 := by
  unfold np_
  rw [if_neg (by decide)]
  by_cases c : q.1 = 0 ∨ p < q.2 ∨ p = q.2 ∧ k < q.1
  · rw [if_pos c]
    unfold kk_ vk_ at *
    simp only []
    split
    · omega
    · split <;> omega
  · rw [if_neg c]
    unfold kk_ vk_ at *
    split <;> lia
theorem nt1_7 [Inhabited gh_] {M : mm_} {k t : Int} : nt1_ M k t 1 7 = M 1 7 + 1 := by
  unfold nt1_; split
  · rw [up_off (by decide), up_off (by decide), up_at]
  · rw [up_at]
theorem nt1_1 [Inhabited gh_] {M : mm_} {k t i : Int} (h4 : i ≠ 4) (h5 : i ≠ 5) (h7 : i ≠ 7) : nt1_ M k t 1 i = M 1 i := by
  unfold nt1_; split
  · rw [up_off h5, up_off h4, up_off h7]
  · rw [up_off h7]
theorem nt1_r [Inhabited gh_] {M : mm_} {k t : Int} {r : Nat} (h : r ≠ 1) : nt1_ M k t r = M r := by
  unfold nt1_; split
  · rw [up_ne h, up_ne h, up_ne h]
  · rw [up_ne h]
/-- X asks for a sort -/
def hX_ (M : mm_) (s w t : Int) : mm_ := if M 1 8 = 0 ∨ s = -1 ∨ s = w then M else nt1_ M 5 t
def pX_ (M : mm_) (v : Int) : mm_ := if M 1 8 = 0 then M else up_ (up_ M 142 (M 5 3) v) 5 3 (M 5 3 + 1)
section EX
variable {d : Nat} {M : mm_} {K : Int → mm_ → Prop} {Kv : mm_ → Prop} {Qt : qt_}
theorem x_156 [Inhabited gh_] {s w t : Int} (h0 : 0 ≤ t) (h1 : t < 1202) (h2 : 0 ≤ M 1 7) (h3 : M 1 7 < 2147483647) (h : Kv (hX_ M s w t)) : Tr_ wd0 pg0 (d + 2) 156 [.inr (.inr 1), .inl s, .inl w, .inl t] M (rv_ Kv) Qt := t_156 fun V hV hW => b_156_0 (Tr_mono _) hV hW s w t M (by
  intro _
  unfold hX_ at h
  by_cases c1 : M 1 8 = 0
  · rw [if_pos c1]; rw [if_pos (.inl c1)] at h; exact rv_i h
  · rw [if_neg c1]
    by_cases c2 : s = -1
    · rw [if_pos c2]; rw [if_pos (.inr (.inl c2))] at h; exact rv_i h
    · rw [if_neg c2]
      by_cases c3 : s = w
      · rw [if_pos c3]; rw [if_pos (.inr (.inr c3))] at h; exact rv_i h
      · rw [if_neg c3]; rw [if_neg (by (clear h0 h1 h2 h3 h hV hW; lia))] at h
        exact x_116 h0 h1 h2 h3 (rv_i h))
theorem x_138 [Inhabited gh_] {v : Int} (h2 : M 1 2 = 5) (h0 : 0 ≤ M 5 3) (h1 : M 5 3 < 12000) (h : Kv (pX_ M v)) : Tr_ wd0 pg0 (d + 2) 138 [.inr (.inr 1), .inl v] M (rv_ Kv) Qt := t_138 fun V hV hW => b_138_0 (Tr_mono _) hV hW v M (by
  intro _
  unfold pX_ at h
  by_cases c1 : M 1 8 = 0
  · rw [if_pos c1] at h ⊢; exact rv_i h
  · rw [if_neg c1] at h ⊢
    refine ⟨h2, t_207 fun V hV hW => b_207_0 (Tr_mono _) hV hW v M ⟨⟨h0, h1⟩, rv_i (rv_i ?_)⟩⟩
    rw [w32_id (by omega) (by omega)]; exact h)
end EX
end T68_er
section T69_er
/-! small facts of X's and Q's memories in an e -/
section EF
variable {M : mm_} {b F : Int}
theorem hX_c [Inhabited gh_] (s w t : Int) (hb : M 1 8 = b) (h01 : b = 0 ∨ b = 1) : (hX_ M s w t = M ∧ (b = 0 ∨ s = -1 ∨ s = w)) ∨ (b = 1 ∧ s ≠ -1 ∧ s ≠ w ∧ hX_ M s w t = nt1_ M 5 t) := by
  unfold hX_
  by_cases c : M 1 8 = 0 ∨ s = -1 ∨ s = w
  · rw [if_pos c]; exact .inl ⟨rfl, by (clear h01; lia)⟩
  · rw [if_neg c]; exact .inr ⟨by lia, by (clear hb h01; lia), by (clear hb h01; lia), rfl⟩
theorem nt1_XF [Inhabited gh_] {k t : Int} : XF M (nt1_ M k t) := ⟨fun r h => nt1_r fun e => h (by rw [e]; decide), fun i _ h4 h5 _ h7 => nt1_1 h4 h5 h7, fun i _ => by rw [nt1_r (by decide)]⟩
theorem hX_XF [Inhabited gh_] {s w t : Int} : XF M (hX_ M s w t) := by
  unfold hX_; split
  · exact XF_rf
  · exact nt1_XF
theorem hX_1 [Inhabited gh_] {s w t i : Int} (h4 : i ≠ 4) (h5 : i ≠ 5) (h7 : i ≠ 7) : hX_ M s w t 1 i = M 1 i := by
  unfold hX_; split
  · rfl
  · exact nt1_1 h4 h5 h7
theorem hX_r [Inhabited gh_] {s w t : Int} {r : Nat} (h : r ≠ 1) : hX_ M s w t r = M r := by
  unfold hX_; split
  · rfl
  · exact nt1_r h
theorem nX_XF [Inhabited gh_] : XF M (nX_ M) := ⟨fun r h => nX_ne fun e => h (by rw [e]; decide), fun i h _ _ _ _ => nX_1 h, fun i _ => by rw [nX_ne (by decide)]⟩
theorem pX_1 [Inhabited gh_] {v : Int} : pX_ M v 1 = M 1 := by
  unfold pX_; split
  · rfl
  · rw [up_ne (by decide), up_ne (by decide)]
theorem pX_r [Inhabited gh_] {v : Int} {r : Nat} (h : r ≠ 5) (h1 : r ≠ 142) : pX_ M v r = M r := by
  unfold pX_; split
  · rfl
  · rw [up_ne h, up_ne h1]
theorem pX_5 [Inhabited gh_] {v i : Int} (h : i ≠ 3) : pX_ M v 5 i = M 5 i := by
  unfold pX_; split
  · rfl
  · rw [up_off h, up_ne (by decide)]
theorem pX_XF [Inhabited gh_] {v : Int} : XF M (pX_ M v) := ⟨fun r h => pX_r (fun e => h (by rw [e]; decide)) (fun e => h (by rw [e]; decide)), fun i _ _ _ _ _ => by rw [pX_1], fun i h => pX_5 h⟩
theorem pX_0 [Inhabited gh_] {v : Int} (h : M 1 8 = 0) : pX_ M v = M := by unfold pX_; rw [if_pos h]
theorem pX_E [Inhabited gh_] {v cc : Int} {cd : List Int} (h : M 1 8 ≠ 0) (hE : XE M cc cd) : XE (pX_ M v) cc (v :: cd) := by
  unfold pX_
  rw [if_neg h]
  refine ⟨by rw [up_at, hE.1, List.length_cons]; omega, by rw [up_ne (by decide), hE.1, up_at], stX_c _ (fun i hi hj => ?_) hE.2⟩
  rw [up_ne (by decide), up_off (by rw [hE.1]; omega)]
theorem XE_c [Inhabited gh_] {M' : mm_} {cc : Int} {cd : List Int} (h5 : M' 5 3 = M 5 3) (h142 : M' 142 = M 142) (hE : XE M cc cd) : XE M' cc cd := ⟨h5.trans hE.1, stX_c _ (fun i _ _ => by rw [h142]) hE.2⟩
theorem gd_c [Inhabited gh_] {M' : mm_} {a : Int} (h70 : M' 70 = M 70) (h : gd_ M a) : gd_ M' a := by unfold gd_; rw [h70]; exact h
theorem gd_n [Inhabited gh_] {a : Int} (h : gd_ M a) (h1 : a < 1200) (h2 : M 70 a ≠ 102) (h3 : M 70 a ≠ 103) : gd_ M (a + 1) := by
  refine ⟨by have := h.1; omega, by omega, fun j hj hj1 => ?_⟩
  by_cases e : j = a
  · rw [e]; exact ⟨h2, h3⟩
  · exact h.2.2 j hj (by omega)
theorem lv_k [Inhabited gh_] {k : Int} (h : lv_ k ≠ 0) : k ≠ 102 ∧ k ≠ 103 := by
  constructor
  · intro e; apply h; rw [e]; decide
  · intro e; apply h; rw [e]; decide
theorem XF_70 [Inhabited gh_] {M' : mm_} (h : XF M M') {r : Nat} (h1 : r ≠ 1) (h5 : r ≠ 5) (h2 : r ≠ 142) : M' r = M r := h.1 r (by simp only [List.mem_cons, List.not_mem_nil, or_false, not_or]; exact ⟨h1, h5, h2⟩)
theorem QF_r [Inhabited gh_] {M' : mm_} (h : QF M M') {r : Nat} (h1 : r < 227) (h6 : r ≠ 6) : M' r = M r := h.1 r (by simp only [List.mem_cons, List.not_mem_nil, or_false, not_or]; omega)
theorem QF_16 [Inhabited gh_] {M' : mm_} (h : QF M M') : M' 6 16 = M 6 16 := h.2 16 (by decide) (by decide) (by decide) (by decide) (by decide) (by decide) (by decide) (by decide)
theorem QF_61 [Inhabited gh_] {M' : mm_} (h : QF M M') : M' 6 61 = M 6 61 := h.2 61 (by decide) (by decide) (by decide) (by decide) (by decide) (by decide) (by decide) (by decide)
theorem nx_QF [Inhabited gh_] : QF M (nx_ M) := ⟨fun r h => nx_ne fun e => h (by rw [e]; decide), fun i h _ _ _ _ _ _ _ => nx_6 h⟩
/-- tables and code words do not change in an e -/
theorem en_1c [Inhabited gh_] {M' : mm_} (h : QF M M') (x : Int × Int) : en_1 M' x = en_1 M x := by
  unfold en_1
  rw [QF_r h (r := 184) (by decide) (by decide), QF_r h (r := 183) (by decide) (by decide)]
theorem er_c [Inhabited gh_] {M' : mm_} (h : QF M M') : ∀ l : List (Int × Int), er_ M' l = er_ M l
  | [] => rfl
  | x :: t => by show en_1 M' x ++ er_ M' t = en_1 M x ++ er_ M t; rw [en_1c h, er_c h t]
theorem ts_c [Inhabited gh_] {M' : mm_} (h : QF M M') {x : Int × Int} {s s' : List Int} (ht : ts_ M' x s s') : ts_ M x s s' := by
  unfold ts_ at ht ⊢
  rw [QF_r h (r := 173) (by decide) (by decide), QF_r h (r := 171) (by decide) (by decide), QF_r h (r := 183) (by decide) (by decide), QF_r h (r := 182) (by decide) (by decide), QF_61 h] at ht
  exact ht
theorem ty_c [Inhabited gh_] {M' : mm_} {D : Int} (h : QF M M') : ∀ (l : List (Int × Int)) (s s' : List Int), ty_ M' D l s s' → ty_ M D l s s'
  | [], _, _, ht => ht
  | x :: t, s, s', ⟨s1, a, b, c⟩ => ⟨s1, ty_c h t s s1 a, ts_c h b, c⟩
theorem kk_lt [Inhabited gh_] {f p X : Int} (h : kk_ f p < 8 * X) (hX : X ≤ 5000) (hv : vk_ f p) : f ≠ 0 ∧ p < X := by
  unfold kk_ at h; unfold vk_ at hv
  split at h <;> omega
theorem VT_c [Inhabited gh_] {Mx Mq Mx' Mq' : mm_} (hx : XF Mx Mx') (hq : QF Mq Mq') (h : VT Mx Mq) : VT Mx' Mq' := by
  have e18 : Mx' 1 18 = Mx 1 18 := hx.2.1 18 (by decide) (by decide) (by decide) (by decide) (by decide)
  have e2 : Mx' 1 2 = Mx 1 2 := hx.2.1 2 (by decide) (by decide) (by decide) (by decide) (by decide)
  unfold VT nm9_ gd_ at *
  rw [e18, e2, QF_61 hq, XF_70 hx (r := 124) (by decide) (by decide) (by decide), XF_70 hx (r := 126) (by decide) (by decide) (by decide), XF_70 hx (r := 60) (by decide) (by decide) (by decide), XF_70 hx (r := 61) (by decide) (by decide) (by decide), XF_70 hx (r := 70) (by decide) (by decide) (by decide), XF_70 hx (r := 130) (by decide) (by decide) (by decide), XF_70 hx (r := 131) (by decide) (by decide) (by decide), XF_70 hx (r := 132) (by decide) (by decide) (by decide), QF_r hq (r := 171) (by decide) (by decide), QF_r hq (r := 173) (by decide) (by decide), QF_r hq (r := 177) (by decide) (by decide), QF_r hq (r := 151) (by decide) (by decide), QF_r hq (r := 182) (by decide) (by decide), QF_r hq (r := 183) (by decide) (by decide), QF_r hq (r := 184) (by decide) (by decide), QF_r hq (r := 178) (by decide) (by decide)]
  exact h
theorem Tks_c [Inhabited gh_] {Mx Mq Mx' Mq' : mm_} (hx : XF Mx Mx') (hq : QF Mq Mq') (h : Tks Mx Mq) : Tks Mx' Mq' := by
  unfold Tks gd_ lk9_ at *
  rw [XF_70 hx (r := 69) (by decide) (by decide) (by decide), XF_70 hx (r := 70) (by decide) (by decide) (by decide), XF_70 hx (r := 71) (by decide) (by decide) (by decide), XF_70 hx (r := 72) (by decide) (by decide) (by decide), XF_70 hx (r := 73) (by decide) (by decide) (by decide), QF_r hq (r := 149) (by decide) (by decide), QF_r hq (r := 150) (by decide) (by decide), QF_r hq (r := 151) (by decide) (by decide)]
  exact h
end EF
end T69_er
section T70_er
/-! two parts of an e and the sign between them -/
section EB
variable {need b F : Int} {Mx Mq Mx1 Mq1 : mm_} {a a1 o : Int} {sg : List (Int × Int)} {ws : List (Int × Int × Int)} {c1 : Int} {cm : List Int} {f : Int} {fm : List (Int × Int)} {cc : Int} {cd : List Int} {s1 t1 bd1 : Int} {l1 : List (Int × Int)}
/-- behind the sign -/
def mi_ (M : mm_) (cl : Nat) (c s a : Int) : mm_ := nx_ (ho_ (up_ M 234 (cl : Int) c) s a)
theorem mi_6 [Inhabited gh_] {M : mm_} {cl : Nat} {c s a i : Int} (h : i ≠ 12) (h2 : i ≠ 112) : mi_ M cl c s a 6 i = M 6 i := by unfold mi_; rw [nx_6 h, ho_6 h2, up_ne (by decide)]
theorem mi_12 [Inhabited gh_] {M : mm_} {cl : Nat} {c s a : Int} : mi_ M cl c s a 6 12 = M 6 12 + 1 := by unfold mi_; rw [nx_12, ho_6 (by decide), up_ne (by decide)]
theorem mi_QF [Inhabited gh_] {M : mm_} {cl : Nat} {c s a : Int} : QF M (mi_ M cl c s a) := QF_tr (QF_tr ⟨Fr_up Fr_rf (by decide), fun i _ _ _ _ _ _ _ _ => by rw [up_ne (by decide)]⟩ ho_QF) nx_QF
theorem mi_fq [Inhabited gh_] {M : mm_} {cl : Nat} {c s a : Int} : fqq_ (mi_ M cl c s a) = fqq_ M := by unfold fqq_; rw [mi_6 (by decide) (by decide), mi_6 (by decide) (by decide)]
theorem mi_QE [Inhabited gh_] {M : mm_} {c' c s a : Int} (h : QE M sg ws (c' :: cm) f fm) : QE (mi_ M cm.length c s a) ((s, a) :: sg) ws (c :: cm) f fm := nx_QE (ho_QE (cC_QE h rfl))
theorem tk_p [Inhabited gh_] (hT : Tks Mx Mq) {i : Int} (h : gd_ Mx i) : 0 ≤ Mx 71 i ∧ Mx 71 i ≤ 5000 := by
  have := (hT i h).2.2.2.1
  omega
theorem EP_mid [Inhabited gh_] (hT : Tks Mx Mq) (hga : gd_ Mx a) {y1 : List Int} (hXF : XF Mx Mx1) (hER : ER b F Mx1 Mq1 a1 o) (hXE : XE Mx1 cc (y1 ++ cd)) {k c2 F2 : Int} {Mh : mm_} (hk : Mx 70 a1 = k) (hlv : lv_ k ≠ 0) (h12 : a1 < 1200)
    (hMh : (Mh = Mx1 ∧ F2 = F) ∨ (b = 1 ∧ Mh = nt1_ Mx1 5 a ∧ F2 = min F (8 * Mx 71 a + 5))) :
    ER b F2 (nX_ Mh) (mi_ Mq1 cm.length c2 (sh_ k) a1) (a1 + 1) o ∧ XF Mx1 (nX_ Mh) ∧ XE (nX_ Mh) cc (y1 ++ cd) ∧ (nX_ Mh 1 7 = Mx1 1 7 ∨ nX_ Mh 1 7 = Mx1 1 7 + 1) := by
  obtain ⟨e1, e2, e3, e4, e5, e6, e7, e8, e9, e10, e11, e12, e13, e14, e15⟩ := hER
  have hp := tk_p hT hga
  have hX1 : XF Mx1 Mh := by
    rcases hMh with h | h
    · rw [h.1]; exact XF_rf
    · rw [h.2.1]; exact nt1_XF
  have hX2 : XF Mx1 (nX_ Mh) := XF_tr hX1 nX_XF
  have i1 : ∀ i : Int, i ≠ 3 → i ≠ 4 → i ≠ 5 → i ≠ 7 → nX_ Mh 1 i = Mx1 1 i := by
    intro i a3 a4 a5 a7
    rw [nX_1 a3]
    rcases hMh with h | h
    · rw [h.1]
    · rw [h.2.1, nt1_1 a4 a5 a7]
  have i3 : Mh 1 3 = Mx1 1 3 := by
    rcases hMh with h | h
    · rw [h.1]
    · rw [h.2.1, nt1_1 (by decide) (by decide) (by decide)]
  have i7 : nX_ Mh 1 7 = Mx1 1 7 ∨ nX_ Mh 1 7 = Mx1 1 7 + 1 := by
    rw [nX_1 (by decide)]
    rcases hMh with h | h
    · rw [h.1]; exact .inl rfl
    · rw [h.2.1, nt1_7]; exact .inr rfl
  have h5 : nX_ Mh 5 = Mx1 5 := by
    rw [nX_ne (by decide)]
    rcases hMh with h | h
    · rw [h.1]
    · rw [h.2.1, nt1_r (by decide)]
  have h142 : nX_ Mh 142 = Mx1 142 := by
    rw [nX_ne (by decide)]
    rcases hMh with h | h
    · rw [h.1]
    · rw [h.2.1, nt1_r (by decide)]
  have h70 : Mx1 70 = Mx 70 := XF_70 hXF (by decide) (by decide) (by decide)
  have h71 : Mx1 71 = Mx 71 := XF_70 hXF (by decide) (by decide) (by decide)
  refine ⟨⟨?_, ?_, ?_, ?_, ?_, e6, ?_, ?_, e9, ?_, ?_, ?_, ?_, ?_, ?_⟩, hX2, XE_c (by rw [h5]) h142 hXE, i7⟩
  · have hk2 := lv_k hlv
    refine gd_c (XF_70 hX2 (by decide) (by decide) (by decide)) (gd_n e1 h12 ?_ ?_)
    · rw [h70, hk]; exact hk2.1
    · rw [h70, hk]; exact hk2.2
  · rw [nX_3, i3, e2]
  · rw [mi_12, e3]
  · rw [i1 6 (by decide) (by decide) (by decide) (by decide)]; exact e4
  · rw [mi_6 (by decide) (by decide)]; exact e5
  · rw [i1 8 (by decide) (by decide) (by decide) (by decide)]; exact e7
  · rw [mi_6 (by decide) (by decide)]; exact e8
  · rw [mi_6 (by decide) (by decide)]; exact e10
  · have := e11
    obtain ⟨n1, n2, n3, n4⟩ := this
    unfold NR
    rw [mi_6 (by decide) (by decide), mi_6 (by decide) (by decide), mi_6 (by decide) (by decide), nX_1 (by decide), nX_1 (by decide), nX_1 (by decide)]
    rcases hMh with h | h
    · rw [h.1, h.2]; exact ⟨n1, n2, n3, n4⟩
    · have hn := kk_nt1 (M := Mx1) (k := 5) (t := a) n1 (by decide) (by decide) (by rw [h71]; exact hp.1) (by rw [h71]; exact hp.2)
      rw [h.2.1, h.2.2]
      refine ⟨hn.2, n2, ?_, by have := n4.1; (clear hT hga hXF hXE hk hlv h12 e1 e2 e3 e4 e5 e6 e7 e8 e9 e10 e11 e12 e13 e14 e15 hp hX1 hX2 i1 i3 i7 h5 h142 h70 h71 n1 n2 n3 h hn this; omega), by rw [nt1_1 (by decide) (by decide) (by decide)]; exact n4.2⟩
      rw [hn.1, n3, h71]; (clear hT hga hXF hXE hk hlv h12 e1 e2 e3 e4 e5 e6 e7 e9 e10 e11 e12 e13 e14 e15 hp hX1 hX2 i1 i3 i7 h5 h142 h70 h71 n1 n2 hn; lia)
  · rcases i7 with h | h <;> (clear hT hga hXF hXE hk hlv h12 hMh e1 e2 e3 e4 e5 e6 e7 e8 e9 e10 e11 e13 e14 e15 hp hX1 hX2 i1 i3 h5 h142 h70 h71; lia)
  · rcases i7 with h | h <;> (clear hT hga hXF hXE hk hlv h12 hMh e1 e4 e5 e6 e7 e8 e9 e10 e11 e12 e14 e15 hp hX1 hX2 i1 h5 h142 h70 h71; lia)
  · rw [h5]; exact e14
  · rw [h5]; (clear hT hga hXF hXE hk hlv h12 hMh e1 e4 e5 e6 e7 e8 e9 e10 e11 e12 e13 e14 hp hX1 hX2 i1 i7 h5 h142 h70 h71; lia)
/-- X's op of a sign that binds two -/
def xo9_ (s : Int) : Int := if s < 25 then s - 10 else if s < 31 then s - 6 else s - 14
theorem en_op [Inhabited gh_] {M : mm_} {s : Int} (h : 20 ≤ s) : en_1 M (s, 0) = [xo9_ s] := by
  unfold en_1 xo9_
  simp only []
  rw [if_neg (by omega), if_neg (by omega), if_neg (by omega), if_neg (by omega), if_neg (by omega), if_neg (by omega), if_neg (by omega), if_neg (by omega), if_neg (by omega)]
  split
  · rfl
  · split <;> rfl
theorem aq_k [Inhabited gh_] {q : Int × Int} {x : Int × Int × Int} {w : Int} (h : vk_ q.1 q.2) (hp : 0 ≤ x.2.1 ∧ x.2.1 ≤ 5000) : vk_ (aq_ 1 q x w).1 (aq_ 1 q x w).2 ∧ kk_ (aq_ 1 q x w).1 (aq_ 1 q x w).2 = if x.2.2 = 0 ∧ x.1 ≠ w then min (kk_ q.1 q.2) (8 * x.2.1 + 5) else kk_ q.1 q.2 := by
  unfold aq_
  by_cases c : x.2.2 = 0 ∧ x.1 ≠ w
  · rw [if_pos c, if_pos c]
    have := kk_np (q := q) (k := 5) h (by decide) (by decide) hp.1 hp.2
    exact ⟨this.2, this.1⟩
  · rw [if_neg c, if_neg c]; exact ⟨h, rfl⟩
/-- what X notes is what Q notes -/
theorem bin_x1 [Inhabited gh_] {s s1 w t1 bd1 : Int} (any : ¬ (s = 25 ∨ s = 26)) (b1 : bd1 = 0 ∨ bd1 = 1) (hw : w = rw_ s - 1) (hl : (bd1 = 0 → s1 = t1 - 1 ∧ 1 ≤ t1 ∧ t1 ≤ 3) ∧ (bd1 = 1 → s1 = -1 ∨ (s1 = w ∧ ¬ (s = 25 ∨ s = 26)))) : ((s = 25 ∨ s = 26) ∨ s1 = -1 ∨ s1 = w) ↔ ¬ (bd1 = 0 ∧ t1 ≠ rw_ s) := by
  rcases b1 with h | h
  · have := hl.1 h
    clear hl
    constructor
    · rintro (h9 | h9)
      · exact absurd h9 any
      · omega
    · intro h9; right; lia
  · have h2 := hl.2 h
    constructor
    · intro _ h9; omega
    · intro _
      rcases h2 with h3 | h3
      · exact .inr (.inl h3)
      · exact .inr (.inr h3.1)
theorem bin_x2 [Inhabited gh_] {s s2 w2 t2 bd2 : Int} (b2 : bd2 = 0 ∨ bd2 = 1) (hw : w2 = rw_ s - 1) (hr : (bd2 = 0 → s2 = t2 - 1 ∧ 1 ≤ t2 ∧ t2 ≤ 3) ∧ (bd2 = 1 → s2 = -1)) : (s2 = -1 ∨ s2 = w2) ↔ ¬ (bd2 = 0 ∧ t2 ≠ rw_ s) := by
  rcases b2 with h | h
  · have := hr.1 h
    clear hr
    constructor <;> intro h9 <;> omega
  · have h2 := hr.2 h
    constructor
    · intro _ h9; omega
    · intro _; exact .inl h2
theorem bin_kx [Inhabited gh_] {F F2 kx3 kx4 kq3 kq4 A B : Int} {P1 P2 : Prop} [Decidable P1] [Decidable P2] (eF : F2 = if P1 then min F A else F) (h3 : kx3 = min F2 kq3) (e4 : kx4 = if P2 then min kx3 B else kx3) (k4 : kq4 = if P2 then min (if P1 then min kq3 A else kq3) B else (if P1 then min kq3 A else kq3)) : kx4 = min F kq4 ∧ kq4 ≤ kq3 ∧ (P1 → kq4 ≤ A) ∧ (P2 → kq4 ≤ B) := by
  by_cases c1 : P1
  · rw [if_pos c1] at eF
    rw [if_pos c1] at k4
    by_cases c2 : P2
    · rw [if_pos c2] at e4 k4
      exact ⟨by (clear c1 c2; lia), by (clear eF h3 e4 c1 c2; omega), fun _ => by (clear eF h3 e4 c1 c2; omega), fun _ => by omega⟩
    · rw [if_neg c2] at e4 k4
      exact ⟨by (clear c1 c2; lia), by omega, fun _ => by omega, fun h => absurd h c2⟩
  · rw [if_neg c1] at eF
    rw [if_neg c1] at k4
    by_cases c2 : P2
    · rw [if_pos c2] at e4 k4
      exact ⟨by (clear c1 c2; lia), by omega, fun h => absurd h c1, fun _ => by omega⟩
    · rw [if_neg c2] at e4 k4
      exact ⟨by (clear c1 c2; lia), by omega, fun h => absurd h c1, fun h => absurd h c2⟩
theorem bin_fl [Inhabited gh_] {fl0 fl1 fl2 fl3 fl4 bd1 bd2 : Int} {P1 P2 : Prop} [Decidable P1] [Decidable P2] (b1 : bd1 = 0 ∨ bd1 = 1) (b2 : bd2 = 0 ∨ bd2 = 1) (f1 : (bd1 = 0 → fl1 = fl0) ∧ (bd1 = 1 → fl0 < fl1)) (f2 : fl2 = if P1 then fl1 + 1 else fl1) (f3 : (bd2 = 0 → fl3 = fl2) ∧ (bd2 = 1 → fl2 < fl3)) (f4 : fl4 = if P2 then fl3 + 1 else fl3) : (bd1 = 0 → bd2 = 0 → ¬ P1 → ¬ P2 → fl4 = fl0) ∧ (bd1 = 1 ∨ bd2 = 1 ∨ P1 ∨ P2 → fl0 < fl4) ∧ fl4 ≤ fl3 + 1 ∧ fl2 ≤ fl1 + 1 := by
  have g3 : fl0 ≤ fl1 := by rcases b1 with h | h; have := f1.1 h; omega; have := f1.2 h; omega
  have g4 : fl2 ≤ fl3 := by rcases b2 with h | h; have := f3.1 h; (clear b1 f1 f3 f4 g3 h; lia); have := f3.2 h; omega
  have g5 : fl3 ≤ fl4 ∧ fl4 ≤ fl3 + 1 ∧ (P2 → fl3 < fl4) := by
    rw [f4]; split
    · exact ⟨by omega, by (clear b1 b2 f1 f2 f3 f4 g3 g4; lia), fun _ => by omega⟩
    · rename_i h; exact ⟨by omega, by omega, fun h9 => absurd h9 h⟩
  have g6 : fl1 ≤ fl2 ∧ fl2 ≤ fl1 + 1 ∧ (P1 → fl1 < fl2) := by
    rw [f2]; split
    · exact ⟨by omega, by omega, fun _ => by omega⟩
    · rename_i h; exact ⟨by omega, by omega, fun h9 => absurd h9 h⟩
  refine ⟨fun h1 h2 n1 n2 => ?_, fun h => ?_, g5.2.1, g6.2.1⟩
  · rw [f4, if_neg n2, f3.1 h2, f2, if_neg n1, f1.1 h1]
  · rcases h with h | h | h | h
    · have := f1.2 h; (clear b1 b2 f1 f3 g3 h; lia)
    · have := f3.2 h; omega
    · have := g6.2.2 h; (clear b1 b2 f1 f3 h; omega)
    · have := g5.2.2 h; (clear b1 b2 f1 f3 h; lia)
theorem bin_o [Inhabited gh_] {F F2 kx3 kx4 : Int} {q3 q4 : Int × Int} {s s1 s2 w w2 p1 p2 t1 t2 bd1 bd2 fl1 fl2 fl3 fl4 fl0 rb : Int} (any : ¬ (s = 25 ∨ s = 26)) (hv : vk_ q3.1 q3.2) (b1 : bd1 = 0 ∨ bd1 = 1) (b2 : bd2 = 0 ∨ bd2 = 1)
    (erq : q4 = aq_ 1 (aq_ 1 q3 (t1, p1, bd1) (rw_ s)) (t2, p2, bd2) (rw_ s)) (erb : rb = if bd1 = 0 ∧ bd2 = 0 ∧ t1 = rw_ s ∧ t2 = rw_ s then 0 else 1) (hv4 : vk_ (aq_ 1 (aq_ 1 q3 (t1, p1, bd1) (rw_ s)) (t2, p2, bd2) (rw_ s)).1 (aq_ 1 (aq_ 1 q3 (t1, p1, bd1) (rw_ s)) (t2, p2, bd2) (rw_ s)).2)
    (k3 : kk_ (aq_ 1 (aq_ 1 q3 (t1, p1, bd1) (rw_ s)) (t2, p2, bd2) (rw_ s)).1 (aq_ 1 (aq_ 1 q3 (t1, p1, bd1) (rw_ s)) (t2, p2, bd2) (rw_ s)).2 = if bd2 = 0 ∧ t2 ≠ rw_ s then min (if bd1 = 0 ∧ t1 ≠ rw_ s then min (kk_ q3.1 q3.2) (8 * p1 + 5) else kk_ q3.1 q3.2) (8 * p2 + 5) else (if bd1 = 0 ∧ t1 ≠ rw_ s then min (kk_ q3.1 q3.2) (8 * p1 + 5) else kk_ q3.1 q3.2))
    (x1 : ((s = 25 ∨ s = 26) ∨ s1 = -1 ∨ s1 = w) ↔ ¬ (bd1 = 0 ∧ t1 ≠ rw_ s)) (x2 : (s2 = -1 ∨ s2 = w2) ↔ ¬ (bd2 = 0 ∧ t2 ≠ rw_ s))
    (hF2 : F2 = if (s = 25 ∨ s = 26) ∨ s1 = -1 ∨ s1 = w then F else min F (8 * p1 + 5)) (h3 : kx3 = min F2 (kk_ q3.1 q3.2)) (h4 : kx4 = if s2 = -1 ∨ s2 = w2 then kx3 else min kx3 (8 * p2 + 5))
    (hx : bd1 = 1 → bd2 = 0 → kk_ q3.1 q3.2 < 8 * p2)
    (f1 : (bd1 = 0 → fl1 = fl0) ∧ (bd1 = 1 → fl0 < fl1)) (f2 : fl2 = if (s = 25 ∨ s = 26) ∨ s1 = -1 ∨ s1 = w then fl1 else fl1 + 1) (f3 : (bd2 = 0 → fl3 = fl2) ∧ (bd2 = 1 → fl2 < fl3)) (f4 : fl4 = if s2 = -1 ∨ s2 = w2 then fl3 else fl3 + 1) :
    vk_ q4.1 q4.2 ∧ kx4 = min F (kk_ q4.1 q4.2)
    ∧ (rb = 0 → q4 = q3 ∧ fl4 = fl0 ∧ bd1 = 0 ∧ bd2 = 0 ∧ (if s = 25 ∨ s = 26 then t1 = t2 else t1 = rw_ s ∧ t2 = rw_ s))
    ∧ (rb = 1 → fl0 < fl4 ∧ (bd2 = 1 ∧ kk_ q4.1 q4.2 ≤ kk_ q3.1 q3.2 ∨ kk_ q4.1 q4.2 ≤ 8 * p2 + 5 ∨ kk_ q4.1 q4.2 ≤ 8 * p1 + 5))
    ∧ (rb = 0 ∨ rb = 1) ∧ fl4 ≤ fl3 + 1 ∧ fl2 ≤ fl1 + 1 := by
  have eF : F2 = if bd1 = 0 ∧ t1 ≠ rw_ s then min F (8 * p1 + 5) else F := by
    rw [hF2]
    by_cases c : bd1 = 0 ∧ t1 ≠ rw_ s
    · rw [if_neg (fun h => x1.mp h c), if_pos c]
    · rw [if_pos (x1.mpr c), if_neg c]
  have ef2 : fl2 = if bd1 = 0 ∧ t1 ≠ rw_ s then fl1 + 1 else fl1 := by
    rw [f2]
    by_cases c : bd1 = 0 ∧ t1 ≠ rw_ s
    · rw [if_neg (fun h => x1.mp h c), if_pos c]
    · rw [if_pos (x1.mpr c), if_neg c]
  have e4 : kx4 = if bd2 = 0 ∧ t2 ≠ rw_ s then min kx3 (8 * p2 + 5) else kx3 := by
    rw [h4]
    by_cases c : bd2 = 0 ∧ t2 ≠ rw_ s
    · rw [if_neg (fun h => x2.mp h c), if_pos c]
    · rw [if_pos (x2.mpr c), if_neg c]
  have ef4 : fl4 = if bd2 = 0 ∧ t2 ≠ rw_ s then fl3 + 1 else fl3 := by
    rw [f4]
    by_cases c : bd2 = 0 ∧ t2 ≠ rw_ s
    · rw [if_neg (fun h => x2.mp h c), if_pos c]
    · rw [if_pos (x2.mpr c), if_neg c]
  rw [← erq] at hv4 k3
  have kx := bin_kx eF h3 e4 k3
  have fl := bin_fl b1 b2 f1 ef2 f3 ef4
  rw [if_neg any]
  refine ⟨hv4, kx.1, fun hrb => ?_, fun hrb => ?_, ?_, fl.2.2.1, fl.2.2.2⟩
  · rw [erb] at hrb
    by_cases nb : bd1 = 0 ∧ bd2 = 0 ∧ t1 = rw_ s ∧ t2 = rw_ s
    · refine ⟨?_, fl.1 nb.1 nb.2.1 (fun h => h.2 nb.2.2.1) (fun h => h.2 nb.2.2.2), nb.1, nb.2.1, nb.2.2.1, nb.2.2.2⟩
      rw [erq]; unfold aq_; rw [if_neg (fun h => h.2 nb.2.2.2), if_neg (fun h => h.2 nb.2.2.1)]
    · rw [if_neg nb] at hrb; exact absurd hrb (by decide)
  · rw [erb] at hrb
    by_cases nb : bd1 = 0 ∧ bd2 = 0 ∧ t1 = rw_ s ∧ t2 = rw_ s
    · rw [if_pos nb] at hrb; exact absurd hrb (by decide)
    · by_cases n1 : bd1 = 0 ∧ t1 ≠ rw_ s
      · exact ⟨fl.2.1 (.inr (.inr (.inl n1))), .inr (.inr (kx.2.2.1 n1))⟩
      · by_cases n2 : bd2 = 0 ∧ t2 ≠ rw_ s
        · exact ⟨fl.2.1 (.inr (.inr (.inr n2))), .inr (.inl (kx.2.2.2 n2))⟩
        · rcases b2 with h | h
          · have hb1 : bd1 = 1 := by
              rcases b1 with h' | h'
              · exfalso; apply nb
                exact ⟨h', h, Classical.byContradiction fun h9 => n1 ⟨h', h9⟩, Classical.byContradiction fun h9 => n2 ⟨h, h9⟩⟩
              · exact h'
            have h8 := hx hb1 h
            have h7 := kx.2.1
            exact ⟨fl.2.1 (.inl hb1), .inr (.inl (by clear eF ef2 e4 ef4 kx fl f1 f2 f3 f4 hF2 h3 h4 x1 x2 hx erb; (clear any hv b1 erq hv4 hrb nb n1 n2 h hb1; omega)))⟩
          · exact ⟨fl.2.1 (.inr (.inl h)), .inl ⟨h, kx.2.1⟩⟩
  · rw [erb]; split
    · exact .inl rfl
    · exact .inr rfl
/-- the notes of the two, X's and Q's, and whether something is wrong -/
theorem bin_notes [Inhabited gh_] {F F2 kx1 kx3 kx4 : Int} {q3 : Int × Int} {s s1 s2 w w2 p1 p2 t1 t2 bd1 bd2 fl1 fl2 fl3 fl4 fl0 : Int} (hs : 20 ≤ s ∧ s ≤ 32) (hv : vk_ q3.1 q3.2) (hp1 : 0 ≤ p1 ∧ p1 ≤ 5000) (hp2 : 0 ≤ p2 ∧ p2 ≤ 5000) (b1 : bd1 = 0 ∨ bd1 = 1) (b2 : bd2 = 0 ∨ bd2 = 1)
    (hw : w = rw_ s - 1) (hw2 : w2 = if s = 25 ∨ s = 26 then s1 else w)
    (hl : (bd1 = 0 → s1 = t1 - 1 ∧ 1 ≤ t1 ∧ t1 ≤ 3) ∧ (bd1 = 1 → s1 = -1 ∨ (s1 = w ∧ ¬ (s = 25 ∨ s = 26)))) (hr : (bd2 = 0 → s2 = t2 - 1 ∧ 1 ≤ t2 ∧ t2 ≤ 3) ∧ (bd2 = 1 → s2 = -1))
    (hF2 : F2 = if (s = 25 ∨ s = 26) ∨ s1 = -1 ∨ s1 = w then F else min F (8 * p1 + 5)) (h3 : kx3 = min F2 (kk_ q3.1 q3.2)) (h4 : kx4 = if s2 = -1 ∨ s2 = w2 then kx3 else min kx3 (8 * p2 + 5))
    (hx : bd1 = 1 → bd2 = 0 → kk_ q3.1 q3.2 < 8 * p2)
    (f1 : (bd1 = 0 → fl1 = fl0) ∧ (bd1 = 1 → fl0 < fl1)) (f2 : fl2 = if (s = 25 ∨ s = 26) ∨ s1 = -1 ∨ s1 = w then fl1 else fl1 + 1) (f3 : (bd2 = 0 → fl3 = fl2) ∧ (bd2 = 1 → fl2 < fl3)) (f4 : fl4 = if s2 = -1 ∨ s2 = w2 then fl3 else fl3 + 1) :
    vk_ (rq_ 1 q3 s (t1, p1, bd1) (t2, p2, bd2)).1 (rq_ 1 q3 s (t1, p1, bd1) (t2, p2, bd2)).2 ∧ kx4 = min F (kk_ (rq_ 1 q3 s (t1, p1, bd1) (t2, p2, bd2)).1 (rq_ 1 q3 s (t1, p1, bd1) (t2, p2, bd2)).2)
    ∧ (rb_ s (t1, p1, bd1) (t2, p2, bd2) = 0 → rq_ 1 q3 s (t1, p1, bd1) (t2, p2, bd2) = q3 ∧ fl4 = fl0 ∧ bd1 = 0 ∧ bd2 = 0 ∧ (if s = 25 ∨ s = 26 then t1 = t2 else t1 = rw_ s ∧ t2 = rw_ s))
    ∧ (rb_ s (t1, p1, bd1) (t2, p2, bd2) = 1 → fl0 < fl4 ∧ (bd2 = 1 ∧ kk_ (rq_ 1 q3 s (t1, p1, bd1) (t2, p2, bd2)).1 (rq_ 1 q3 s (t1, p1, bd1) (t2, p2, bd2)).2 ≤ kk_ q3.1 q3.2 ∨ kk_ (rq_ 1 q3 s (t1, p1, bd1) (t2, p2, bd2)).1 (rq_ 1 q3 s (t1, p1, bd1) (t2, p2, bd2)).2 ≤ 8 * p2 + 5 ∨ kk_ (rq_ 1 q3 s (t1, p1, bd1) (t2, p2, bd2)).1 (rq_ 1 q3 s (t1, p1, bd1) (t2, p2, bd2)).2 ≤ 8 * p1 + 5))
    ∧ (rb_ s (t1, p1, bd1) (t2, p2, bd2) = 0 ∨ rb_ s (t1, p1, bd1) (t2, p2, bd2) = 1) ∧ fl4 ≤ fl3 + 1 ∧ fl2 ≤ fl1 + 1 := by
  by_cases any : s = 25 ∨ s = 26
  · have erq : rq_ 1 q3 s (t1, p1, bd1) (t2, p2, bd2) = if bd1 = 0 ∧ bd2 = 0 ∧ t1 ≠ t2 then np_ 1 q3 5 p2 else q3 := by unfold rq_; rw [if_pos any]
    have erb : rb_ s (t1, p1, bd1) (t2, p2, bd2) = if bd1 = 0 ∧ bd2 = 0 ∧ t1 = t2 then 0 else 1 := by unfold rb_; rw [if_pos any]
    rw [erq, erb, if_pos any]
    rw [if_pos (.inl any)] at hF2 f2
    rw [if_pos any] at hw2
    by_cases c1 : bd1 = 0 ∧ bd2 = 0
    · have g1 := hl.1 c1.1
      have g2 := hr.1 c1.2
      have g3 := f1.1 c1.1
      have g4 := f3.1 c1.2
      by_cases c2 : t1 = t2
      · rw [if_neg (fun h => h.2.2 c2), if_pos ⟨c1.1, c1.2, c2⟩]
        rw [if_pos (by (clear hs hv hp1 hp2 b1 b2 hw hl hr hF2 h3 h4 hx f1 f2 f3 f4 any erq erb c1 g3 g4; lia))] at h4 f4
        refine ⟨hv, by (clear hs hv hp1 hp2 b1 b2 hw hw2 hl hr f4 erq erb g1 g2; lia), fun _ => ⟨rfl, by (clear hs hv hp1 hp2 b1 b2 hw hw2 hl hr hF2 h3 h4 hx f1 f3 any erq erb c1 g1 g2 c2; lia), c1.1, c1.2, c2⟩, fun h => absurd h (by decide), .inl rfl, by (clear hs hv hp1 hp2 b1 b2 hw hw2 hl hr hF2 h3 h4 hx f1 f2 f3 any erq erb c1 g1 g2 g3 g4 c2; lia), by (clear hs hv hp1 hp2 b1 b2 hw hw2 hl hr hF2 h3 h4 hx f1 f3 f4 any erq erb c1 g1 g2 g3 g4 c2; lia)⟩
      · rw [if_pos ⟨c1.1, c1.2, c2⟩, if_neg (fun h => c2 h.2.2)]
        rw [if_neg (by omega)] at h4 f4
        have hn := kk_np (q := q3) (k := 5) hv (by decide) (by decide) hp2.1 hp2.2
        refine ⟨hn.2, by rw [hn.1]; (clear hs hv hp1 hp2 b1 b2 hw hw2 hl hr f4 erq erb g1 g2 hn; lia), fun h => absurd h (by decide), fun _ => ⟨by (clear hs hv hp1 hp2 b1 b2 hw hw2 hl hr hF2 h3 h4 hx f1 f3 any erq erb c1 g1 g2 c2 hn; omega), .inr (.inl (by rw [hn.1]; (clear hs hv hp1 hp2 b1 b2 hw hw2 hl hr hF2 h3 h4 hx f1 f2 f3 f4 any erq erb c1 g1 g2 g3 g4 c2 hn; omega)))⟩, .inr rfl, by (clear hs hv hp1 hp2 b1 b2 hw hw2 hl hr hF2 h3 h4 hx f1 f2 f3 any erq erb c1 g1 g2 g3 g4 c2 hn; omega), by omega⟩
    · rw [if_neg (fun h => c1 ⟨h.1, h.2.1⟩), if_neg (fun h => c1 ⟨h.1, h.2.1⟩)]
      have g4 : fl2 ≤ fl3 := by rcases b2 with h | h; have := f3.1 h; (clear hs hv hp1 hp2 b1 hw hw2 hl hr hF2 h3 h4 hx f1 f3 f4 any erq erb c1 h; lia); have := f3.2 h; (clear hs hv hp1 hp2 b1 hw hw2 hl hr hF2 h3 h4 hx f1 f3 f4 any erq erb c1 h; lia)
      have g3 : fl0 ≤ fl1 := by rcases b1 with h | h; have := f1.1 h; (clear hs hv hp1 hp2 b2 hw hw2 hl hr hF2 h3 h4 hx f1 f2 f3 f4 any erq erb c1 g4 h; lia); have := f1.2 h; (clear hs hv hp1 hp2 b2 hw hw2 hl hr hF2 h3 h4 hx f1 f2 f3 f4 any erq erb c1 g4 h; omega)
      have g5 : fl3 ≤ fl4 ∧ fl4 ≤ fl3 + 1 := by rw [f4]; split <;> (clear hs hv hp1 hp2 b1 b2 hw hw2 hl hr hF2 h3 h4 hx f1 f2 f3 f4 any erq erb c1 g4 g3; lia)
      have g6 : fl0 < fl4 := by
        rcases b1 with h | h
        · rcases b2 with h' | h'
          · exact absurd ⟨h, h'⟩ c1
          · have := f3.2 h'; (clear hs hv hp1 hp2 hw hw2 hl hr hF2 h3 h4 hx f1 f3 any erq erb c1 g4 h h'; omega)
        · have := f1.2 h; (clear hs hv hp1 hp2 b2 hw hw2 hl hr hF2 h3 h4 hx f1 f3 any erq erb c1 g3 h; lia)
      refine ⟨hv, ?_, fun h => absurd h (by decide), fun _ => ⟨g6, ?_⟩, .inr rfl, g5.2, by omega⟩
      · rcases b2 with h | h
        · have hb1 : bd1 = 1 := by rcases b1 with h' | h'; exact absurd ⟨h', h⟩ c1; exact h'
          have := hx hb1 h
          rw [h4]; split <;> (clear hs hv hp1 hp2 b1 hw hl hr h4 erq erb g4 g3 g5; lia)
        · have := hr.2 h
          rw [if_pos (.inl this)] at h4; (clear hs hv hp1 hp2 b1 hw hw2 hl hr f4 erq erb g4 g3 g5 g6; lia)
      · rcases b2 with h | h
        · have hb1 : bd1 = 1 := by rcases b1 with h' | h'; exact absurd ⟨h', h⟩ c1; exact h'
          have := hx hb1 h
          exact .inr (.inl (by (clear hs hv hp1 hp2 b1 hw hw2 hl hr hF2 h3 h4 hx f1 f2 f3 f4 any erq erb c1 g4 g3 g5 g6 h hb1; omega)))
        · exact .inl ⟨h, Int.le_refl _⟩
  · have k1 := aq_k (q := q3) (x := (t1, p1, bd1)) (w := rw_ s) hv hp1
    have k2 := aq_k (q := aq_ 1 q3 (t1, p1, bd1) (rw_ s)) (x := (t2, p2, bd2)) (w := rw_ s) k1.1 hp2
    have erq : rq_ 1 q3 s (t1, p1, bd1) (t2, p2, bd2) = aq_ 1 (aq_ 1 q3 (t1, p1, bd1) (rw_ s)) (t2, p2, bd2) (rw_ s) := by unfold rq_; rw [if_neg any]
    have erb : rb_ s (t1, p1, bd1) (t2, p2, bd2) = if bd1 = 0 ∧ bd2 = 0 ∧ t1 = rw_ s ∧ t2 = rw_ s then 0 else 1 := by unfold rb_; rw [if_neg any]
    rw [if_neg any] at hw2
    have k3 := k2.2
    rw [k1.2] at k3
    simp only [] at k3
    have x1 := bin_x1 any b1 hw hl
    have x2 := bin_x2 b2 (hw2.trans hw) hr
    exact bin_o any hv b1 b2 erq erb k2.1 k3 x1 x2 hF2 h3 h4 hx f1 f2 f3 f4
end EB
end T70_er
